/-! VotingHuts -/
set_option maxRecDepth 100000
def RX1 : String := "VotingHuts"
def TX1 : u_T := fun k => match k with
  | 0 => ("VotingHuts", "buffer", "[B", true)
  | 1 => ("VotingHuts", "buffered", "I", false)
  | 2 => ("VotingHuts", "parseError", "I", false)
  | 3 => ("VotingHuts", "errorPosition", "I", false)
  | 4 => ("VotingHuts", "now", "LVotingHuts$World;", false)
  | 5 => ("VotingHuts", "past", "Ljava/util/ArrayDeque;", true)
  | 6 => ("VotingHuts", "saved", "[LVotingHuts$World;", true)
  | _ => ("VotingHuts", "output", "Ljava/lang/StringBuilder;", true)
def tyX1 : Nat → FieldType := fun k => match k with
  | 0 => .array .byte
  | 1 => .int
  | 2 => .int
  | 3 => .int
  | 4 => .object "VotingHuts$World"
  | 5 => .object "java/util/ArrayDeque"
  | 6 => .array (.object "VotingHuts$World")
  | _ => .object "java/lang/StringBuilder"
abbrev wsX10 : List Cond := u_ws RX1 TX1 8
theorem nmX1 : ∀ a, a < 8 → ∀ b, b < 8 → a ≠ b → (TX1 a).2.1 ≠ (TX1 b).2.1 := by decide +kernel
theorem tyX1_ok : ∀ k, k < 8 → parseFieldDescriptor (TX1 k).2.2.1 = some (tyX1 k) := by decide +kernel
abbrev cX1_init : ByteArray := prog_1_method_7_code
def yX1_init : MethodName := ⟨RX1, "<init>", "()V"⟩
def dkwX1_init_2 : List UInt8 := [181, 0, 47, 177]
abbrev dktX1_init_2 : List UInt8 := dkwX1_init_2 ++ []
def dkwX1_init_1 : List UInt8 := [183, 0, 33, 181, 0, 34, 42, 5, 189, 0, 38, 181, 0, 40, 42, 187, 0, 44, 89, 183, 0, 46]
abbrev dktX1_init_1 : List UInt8 := dkwX1_init_1 ++ dktX1_init_2
def dkwX1_init_0 : List UInt8 := [42, 183, 0, 17, 42, 17, 1, 144, 188, 8, 181, 0, 23, 42, 2, 181, 0, 27, 42, 187, 0, 31, 89]
abbrev dktX1_init_0 : List UInt8 := dkwX1_init_0 ++ dktX1_init_1
theorem dksX1_init_0 : cX1_init.data.toList.drop 0 = dktX1_init_0 := by decide +kernel
theorem dksX1_init_1 : cX1_init.data.toList.drop 23 = dktX1_init_1 := dk_seg dksX1_init_0 23 rfl rfl
theorem dksX1_init_2 : cX1_init.data.toList.drop 45 = dktX1_init_2 := dk_seg dksX1_init_1 22 rfl rfl
theorem dX1_init_0 : decode cX1_init 0 = .ok (.aload_n 0, 1) := dk_42 (dk_at dksX1_init_0 0 rfl rfl)
theorem dX1_init_1 : decode cX1_init 1 = .ok (.invokespecial 17, 3) := dk_183 0 17 (dk_at dksX1_init_0 1 rfl rfl)
theorem dX1_init_4 : decode cX1_init 4 = .ok (.aload_n 0, 1) := dk_42 (dk_at dksX1_init_0 4 rfl rfl)
theorem dX1_init_5 : decode cX1_init 5 = .ok (.sipush 400, 3) := dk_17 1 144 (dk_at dksX1_init_0 5 rfl rfl)
theorem dX1_init_8 : decode cX1_init 8 = .ok (.newarray .byte, 2) := dk_188_8 (dk_at dksX1_init_0 8 rfl rfl)
theorem dX1_init_10 : decode cX1_init 10 = .ok (.putfield 23, 3) := dk_181 0 23 (dk_at dksX1_init_0 10 rfl rfl)
theorem dX1_init_13 : decode cX1_init 13 = .ok (.aload_n 0, 1) := dk_42 (dk_at dksX1_init_0 13 rfl rfl)
theorem dX1_init_14 : decode cX1_init 14 = .ok (.iconst (-1), 1) := dk_2 (dk_at dksX1_init_0 14 rfl rfl)
theorem dX1_init_15 : decode cX1_init 15 = .ok (.putfield 27, 3) := dk_181 0 27 (dk_at dksX1_init_0 15 rfl rfl)
theorem dX1_init_18 : decode cX1_init 18 = .ok (.aload_n 0, 1) := dk_42 (dk_at dksX1_init_0 18 rfl rfl)
theorem dX1_init_19 : decode cX1_init 19 = .ok (.new 31, 3) := dk_187 0 31 (dk_at dksX1_init_0 19 rfl rfl)
theorem dX1_init_22 : decode cX1_init 22 = .ok (.dup, 1) := dk_89 (dk_at dksX1_init_0 22 rfl rfl)
theorem dX1_init_23 : decode cX1_init 23 = .ok (.invokespecial 33, 3) := dk_183 0 33 (dk_at dksX1_init_1 0 rfl rfl)
theorem dX1_init_26 : decode cX1_init 26 = .ok (.putfield 34, 3) := dk_181 0 34 (dk_at dksX1_init_1 3 rfl rfl)
theorem dX1_init_29 : decode cX1_init 29 = .ok (.aload_n 0, 1) := dk_42 (dk_at dksX1_init_1 6 rfl rfl)
theorem dX1_init_30 : decode cX1_init 30 = .ok (.iconst 2, 1) := dk_5 (dk_at dksX1_init_1 7 rfl rfl)
theorem dX1_init_31 : decode cX1_init 31 = .ok (.anewarray 38, 3) := dk_189 0 38 (dk_at dksX1_init_1 8 rfl rfl)
theorem dX1_init_34 : decode cX1_init 34 = .ok (.putfield 40, 3) := dk_181 0 40 (dk_at dksX1_init_1 11 rfl rfl)
theorem dX1_init_37 : decode cX1_init 37 = .ok (.aload_n 0, 1) := dk_42 (dk_at dksX1_init_1 14 rfl rfl)
theorem dX1_init_38 : decode cX1_init 38 = .ok (.new 44, 3) := dk_187 0 44 (dk_at dksX1_init_1 15 rfl rfl)
theorem dX1_init_41 : decode cX1_init 41 = .ok (.dup, 1) := dk_89 (dk_at dksX1_init_1 18 rfl rfl)
theorem dX1_init_42 : decode cX1_init 42 = .ok (.invokespecial 46, 3) := dk_183 0 46 (dk_at dksX1_init_1 19 rfl rfl)
theorem dX1_init_45 : decode cX1_init 45 = .ok (.putfield 47, 3) := dk_181 0 47 (dk_at dksX1_init_2 0 rfl rfl)
theorem dX1_init_48 : decode cX1_init 48 = .ok (.return_, 1) := dk_177 (dk_at dksX1_init_2 3 rfl rfl)
abbrev cX1_append : ByteArray := prog_1_method_21_code
def yX1_append : MethodName := ⟨RX1, "append", "(IIIII)I"⟩
def dkwX1_append_4 : List UInt8 := [96, 181, 0, 131, 132, 10, 248, 167, 255, 223, 132, 8, 1, 167, 255, 199, 42, 180, 0, 131, 172]
abbrev dktX1_append_4 : List UInt8 := dkwX1_append_4 ++ []
def dkwX1_append_3 : List UInt8 := [155, 0, 34, 42, 180, 0, 23, 42, 180, 0, 131, 21, 9, 21, 10, 122, 145, 84, 42, 89, 180, 0, 131, 4]
abbrev dktX1_append_3 : List UInt8 := dkwX1_append_3 ++ dktX1_append_4
def dkwX1_append_2 : List UInt8 := [54, 8, 21, 8, 21, 7, 162, 0, 56, 25, 6, 21, 8, 46, 54, 9, 16, 24, 54, 10, 21, 10]
abbrev dktX1_append_2 : List UInt8 := dkwX1_append_2 ++ dktX1_append_3
def dkwX1_append_1 : List UInt8 := [28, 79, 89, 5, 29, 79, 89, 6, 21, 4, 79, 89, 7, 21, 5, 79, 58, 6, 25, 6, 190, 54, 7, 3]
abbrev dktX1_append_1 : List UInt8 := dkwX1_append_1 ++ dktX1_append_2
def dkwX1_append_0 : List UInt8 := [42, 180, 0, 131, 16, 20, 96, 17, 1, 144, 164, 0, 5, 2, 172, 8, 188, 10, 89, 3, 27, 79, 89, 4]
abbrev dktX1_append_0 : List UInt8 := dkwX1_append_0 ++ dktX1_append_1
theorem dksX1_append_0 : cX1_append.data.toList.drop 0 = dktX1_append_0 := by decide +kernel
theorem dksX1_append_1 : cX1_append.data.toList.drop 24 = dktX1_append_1 := dk_seg dksX1_append_0 24 rfl rfl
theorem dksX1_append_2 : cX1_append.data.toList.drop 48 = dktX1_append_2 := dk_seg dksX1_append_1 24 rfl rfl
theorem dksX1_append_3 : cX1_append.data.toList.drop 70 = dktX1_append_3 := dk_seg dksX1_append_2 22 rfl rfl
theorem dksX1_append_4 : cX1_append.data.toList.drop 94 = dktX1_append_4 := dk_seg dksX1_append_3 24 rfl rfl
theorem dX1_append_0 : decode cX1_append 0 = .ok (.aload_n 0, 1) := dk_42 (dk_at dksX1_append_0 0 rfl rfl)
theorem dX1_append_1 : decode cX1_append 1 = .ok (.getfield 131, 3) := dk_180 0 131 (dk_at dksX1_append_0 1 rfl rfl)
theorem dX1_append_4 : decode cX1_append 4 = .ok (.bipush 20, 2) := dk_16 20 (dk_at dksX1_append_0 4 rfl rfl)
theorem dX1_append_6 : decode cX1_append 6 = .ok (.iadd, 1) := dk_96 (dk_at dksX1_append_0 6 rfl rfl)
theorem dX1_append_7 : decode cX1_append 7 = .ok (.sipush 400, 3) := dk_17 1 144 (dk_at dksX1_append_0 7 rfl rfl)
theorem dX1_append_10 : decode cX1_append 10 = .ok (.if_icmp .le 5, 3) := dk_164 0 5 (dk_at dksX1_append_0 10 rfl rfl)
theorem dX1_append_13 : decode cX1_append 13 = .ok (.iconst (-1), 1) := dk_2 (dk_at dksX1_append_0 13 rfl rfl)
theorem dX1_append_14 : decode cX1_append 14 = .ok (.ireturn, 1) := dk_172 (dk_at dksX1_append_0 14 rfl rfl)
theorem dX1_append_15 : decode cX1_append 15 = .ok (.iconst 5, 1) := dk_8 (dk_at dksX1_append_0 15 rfl rfl)
theorem dX1_append_16 : decode cX1_append 16 = .ok (.newarray .int, 2) := dk_188_10 (dk_at dksX1_append_0 16 rfl rfl)
theorem dX1_append_18 : decode cX1_append 18 = .ok (.dup, 1) := dk_89 (dk_at dksX1_append_0 18 rfl rfl)
theorem dX1_append_19 : decode cX1_append 19 = .ok (.iconst 0, 1) := dk_3 (dk_at dksX1_append_0 19 rfl rfl)
theorem dX1_append_20 : decode cX1_append 20 = .ok (.iload_n 1, 1) := dk_27 (dk_at dksX1_append_0 20 rfl rfl)
theorem dX1_append_21 : decode cX1_append 21 = .ok (.iastore, 1) := dk_79 (dk_at dksX1_append_0 21 rfl rfl)
theorem dX1_append_22 : decode cX1_append 22 = .ok (.dup, 1) := dk_89 (dk_at dksX1_append_0 22 rfl rfl)
theorem dX1_append_23 : decode cX1_append 23 = .ok (.iconst 1, 1) := dk_4 (dk_at dksX1_append_0 23 rfl rfl)
theorem dX1_append_24 : decode cX1_append 24 = .ok (.iload_n 2, 1) := dk_28 (dk_at dksX1_append_1 0 rfl rfl)
theorem dX1_append_25 : decode cX1_append 25 = .ok (.iastore, 1) := dk_79 (dk_at dksX1_append_1 1 rfl rfl)
theorem dX1_append_26 : decode cX1_append 26 = .ok (.dup, 1) := dk_89 (dk_at dksX1_append_1 2 rfl rfl)
theorem dX1_append_27 : decode cX1_append 27 = .ok (.iconst 2, 1) := dk_5 (dk_at dksX1_append_1 3 rfl rfl)
theorem dX1_append_28 : decode cX1_append 28 = .ok (.iload_n 3, 1) := dk_29 (dk_at dksX1_append_1 4 rfl rfl)
theorem dX1_append_29 : decode cX1_append 29 = .ok (.iastore, 1) := dk_79 (dk_at dksX1_append_1 5 rfl rfl)
theorem dX1_append_30 : decode cX1_append 30 = .ok (.dup, 1) := dk_89 (dk_at dksX1_append_1 6 rfl rfl)
theorem dX1_append_31 : decode cX1_append 31 = .ok (.iconst 3, 1) := dk_6 (dk_at dksX1_append_1 7 rfl rfl)
theorem dX1_append_32 : decode cX1_append 32 = .ok (.iload 4, 2) := dk_21 4 (dk_at dksX1_append_1 8 rfl rfl)
theorem dX1_append_34 : decode cX1_append 34 = .ok (.iastore, 1) := dk_79 (dk_at dksX1_append_1 10 rfl rfl)
theorem dX1_append_35 : decode cX1_append 35 = .ok (.dup, 1) := dk_89 (dk_at dksX1_append_1 11 rfl rfl)
theorem dX1_append_36 : decode cX1_append 36 = .ok (.iconst 4, 1) := dk_7 (dk_at dksX1_append_1 12 rfl rfl)
theorem dX1_append_37 : decode cX1_append 37 = .ok (.iload 5, 2) := dk_21 5 (dk_at dksX1_append_1 13 rfl rfl)
theorem dX1_append_39 : decode cX1_append 39 = .ok (.iastore, 1) := dk_79 (dk_at dksX1_append_1 15 rfl rfl)
theorem dX1_append_40 : decode cX1_append 40 = .ok (.astore 6, 2) := dk_58 6 (dk_at dksX1_append_1 16 rfl rfl)
theorem dX1_append_42 : decode cX1_append 42 = .ok (.aload 6, 2) := dk_25 6 (dk_at dksX1_append_1 18 rfl rfl)
theorem dX1_append_44 : decode cX1_append 44 = .ok (.arraylength, 1) := dk_190 (dk_at dksX1_append_1 20 rfl rfl)
theorem dX1_append_45 : decode cX1_append 45 = .ok (.istore 7, 2) := dk_54 7 (dk_at dksX1_append_1 21 rfl rfl)
theorem dX1_append_47 : decode cX1_append 47 = .ok (.iconst 0, 1) := dk_3 (dk_at dksX1_append_1 23 rfl rfl)
theorem dX1_append_48 : decode cX1_append 48 = .ok (.istore 8, 2) := dk_54 8 (dk_at dksX1_append_2 0 rfl rfl)
theorem dX1_append_50 : decode cX1_append 50 = .ok (.iload 8, 2) := dk_21 8 (dk_at dksX1_append_2 2 rfl rfl)
theorem dX1_append_52 : decode cX1_append 52 = .ok (.iload 7, 2) := dk_21 7 (dk_at dksX1_append_2 4 rfl rfl)
theorem dX1_append_54 : decode cX1_append 54 = .ok (.if_icmp .ge 56, 3) := dk_162 0 56 (dk_at dksX1_append_2 6 rfl rfl)
theorem dX1_append_57 : decode cX1_append 57 = .ok (.aload 6, 2) := dk_25 6 (dk_at dksX1_append_2 9 rfl rfl)
theorem dX1_append_59 : decode cX1_append 59 = .ok (.iload 8, 2) := dk_21 8 (dk_at dksX1_append_2 11 rfl rfl)
theorem dX1_append_61 : decode cX1_append 61 = .ok (.iaload, 1) := dk_46 (dk_at dksX1_append_2 13 rfl rfl)
theorem dX1_append_62 : decode cX1_append 62 = .ok (.istore 9, 2) := dk_54 9 (dk_at dksX1_append_2 14 rfl rfl)
theorem dX1_append_64 : decode cX1_append 64 = .ok (.bipush 24, 2) := dk_16 24 (dk_at dksX1_append_2 16 rfl rfl)
theorem dX1_append_66 : decode cX1_append 66 = .ok (.istore 10, 2) := dk_54 10 (dk_at dksX1_append_2 18 rfl rfl)
theorem dX1_append_68 : decode cX1_append 68 = .ok (.iload 10, 2) := dk_21 10 (dk_at dksX1_append_2 20 rfl rfl)
theorem dX1_append_70 : decode cX1_append 70 = .ok (.ifCond .lt 34, 3) := dk_155 0 34 (dk_at dksX1_append_3 0 rfl rfl)
theorem dX1_append_73 : decode cX1_append 73 = .ok (.aload_n 0, 1) := dk_42 (dk_at dksX1_append_3 3 rfl rfl)
theorem dX1_append_74 : decode cX1_append 74 = .ok (.getfield 23, 3) := dk_180 0 23 (dk_at dksX1_append_3 4 rfl rfl)
theorem dX1_append_77 : decode cX1_append 77 = .ok (.aload_n 0, 1) := dk_42 (dk_at dksX1_append_3 7 rfl rfl)
theorem dX1_append_78 : decode cX1_append 78 = .ok (.getfield 131, 3) := dk_180 0 131 (dk_at dksX1_append_3 8 rfl rfl)
theorem dX1_append_81 : decode cX1_append 81 = .ok (.iload 9, 2) := dk_21 9 (dk_at dksX1_append_3 11 rfl rfl)
theorem dX1_append_83 : decode cX1_append 83 = .ok (.iload 10, 2) := dk_21 10 (dk_at dksX1_append_3 13 rfl rfl)
theorem dX1_append_85 : decode cX1_append 85 = .ok (.ishr, 1) := dk_122 (dk_at dksX1_append_3 15 rfl rfl)
theorem dX1_append_86 : decode cX1_append 86 = .ok (.i2b, 1) := dk_145 (dk_at dksX1_append_3 16 rfl rfl)
theorem dX1_append_87 : decode cX1_append 87 = .ok (.bastore, 1) := dk_84 (dk_at dksX1_append_3 17 rfl rfl)
theorem dX1_append_88 : decode cX1_append 88 = .ok (.aload_n 0, 1) := dk_42 (dk_at dksX1_append_3 18 rfl rfl)
theorem dX1_append_89 : decode cX1_append 89 = .ok (.dup, 1) := dk_89 (dk_at dksX1_append_3 19 rfl rfl)
theorem dX1_append_90 : decode cX1_append 90 = .ok (.getfield 131, 3) := dk_180 0 131 (dk_at dksX1_append_3 20 rfl rfl)
theorem dX1_append_93 : decode cX1_append 93 = .ok (.iconst 1, 1) := dk_4 (dk_at dksX1_append_3 23 rfl rfl)
theorem dX1_append_94 : decode cX1_append 94 = .ok (.iadd, 1) := dk_96 (dk_at dksX1_append_4 0 rfl rfl)
theorem dX1_append_95 : decode cX1_append 95 = .ok (.putfield 131, 3) := dk_181 0 131 (dk_at dksX1_append_4 1 rfl rfl)
theorem dX1_append_98 : decode cX1_append 98 = .ok (.iinc 10 (-8), 3) := dk_132 10 248 (dk_at dksX1_append_4 4 rfl rfl)
theorem dX1_append_101 : decode cX1_append 101 = .ok (.goto (-33), 3) := dk_167 255 223 (dk_at dksX1_append_4 7 rfl rfl)
theorem dX1_append_104 : decode cX1_append 104 = .ok (.iinc 8 1, 3) := dk_132 8 1 (dk_at dksX1_append_4 10 rfl rfl)
theorem dX1_append_107 : decode cX1_append 107 = .ok (.goto (-57), 3) := dk_167 255 199 (dk_at dksX1_append_4 13 rfl rfl)
theorem dX1_append_110 : decode cX1_append 110 = .ok (.aload_n 0, 1) := dk_42 (dk_at dksX1_append_4 16 rfl rfl)
theorem dX1_append_111 : decode cX1_append 111 = .ok (.getfield 131, 3) := dk_180 0 131 (dk_at dksX1_append_4 17 rfl rfl)
theorem dX1_append_114 : decode cX1_append 114 = .ok (.ireturn, 1) := dk_172 (dk_at dksX1_append_4 20 rfl rfl)
abbrev cX1_parseError : ByteArray := prog_1_method_23_code
def yX1_parseError : MethodName := ⟨RX1, "parseError", "()I"⟩
theorem dX1_parseError_0 : decode cX1_parseError 0 = .ok (.aload_n 0, 1) := by decide +kernel
theorem dX1_parseError_1 : decode cX1_parseError 1 = .ok (.getfield 134, 3) := by decide +kernel
theorem dX1_parseError_4 : decode cX1_parseError 4 = .ok (.ireturn, 1) := by decide +kernel
abbrev cX1_errorPosition : ByteArray := prog_1_method_24_code
def yX1_errorPosition : MethodName := ⟨RX1, "errorPosition", "()I"⟩
theorem dX1_errorPosition_0 : decode cX1_errorPosition 0 = .ok (.aload_n 0, 1) := by decide +kernel
theorem dX1_errorPosition_1 : decode cX1_errorPosition 1 = .ok (.getfield 27, 3) := by decide +kernel
theorem dX1_errorPosition_4 : decode cX1_errorPosition 4 = .ok (.ireturn, 1) := by decide +kernel
abbrev cX1_buffered : ByteArray := prog_1_method_25_code
def yX1_buffered : MethodName := ⟨RX1, "buffered", "()I"⟩
theorem dX1_buffered_0 : decode cX1_buffered 0 = .ok (.aload_n 0, 1) := by decide +kernel
theorem dX1_buffered_1 : decode cX1_buffered 1 = .ok (.getfield 131, 3) := by decide +kernel
theorem dX1_buffered_4 : decode cX1_buffered 4 = .ok (.ireturn, 1) := by decide +kernel
abbrev cX1_undoable : ByteArray := prog_1_method_84_code
def yX1_undoable : MethodName := ⟨RX1, "undoable", "()I"⟩
def dkwX1_undoable_0 : List UInt8 := [42, 180, 0, 34, 182, 0, 119, 172]
abbrev dktX1_undoable_0 : List UInt8 := dkwX1_undoable_0 ++ []
theorem dksX1_undoable_0 : cX1_undoable.data.toList.drop 0 = dktX1_undoable_0 := by decide +kernel
theorem dX1_undoable_0 : decode cX1_undoable 0 = .ok (.aload_n 0, 1) := dk_42 (dk_at dksX1_undoable_0 0 rfl rfl)
theorem dX1_undoable_1 : decode cX1_undoable 1 = .ok (.getfield 34, 3) := dk_180 0 34 (dk_at dksX1_undoable_0 1 rfl rfl)
theorem dX1_undoable_4 : decode cX1_undoable 4 = .ok (.invokevirtual 119, 3) := dk_182 0 119 (dk_at dksX1_undoable_0 4 rfl rfl)
theorem dX1_undoable_7 : decode cX1_undoable 7 = .ok (.ireturn, 1) := dk_172 (dk_at dksX1_undoable_0 7 rfl rfl)
abbrev cX1_load : ByteArray := prog_1_method_22_code
def yX1_load : MethodName := ⟨RX1, "load", "(I)I"⟩
def dkwX1_load_4 : List UInt8 := [180, 0, 153, 181, 0, 27, 187, 0, 51, 89, 183, 0, 53, 191, 78, 42, 3, 181, 0, 131, 45, 191]
abbrev dktX1_load_4 : List UInt8 := dkwX1_load_4 ++ []
def dkwX1_load_3 : List UInt8 := [185, 0, 3, 1, 0, 61, 42, 3, 181, 0, 131, 28, 172, 77, 42, 44, 180, 0, 150, 181, 0, 134, 42, 44]
abbrev dktX1_load_3 : List UInt8 := dkwX1_load_3 ++ dktX1_load_4
def dkwX1_load_2 : List UInt8 := [162, 0, 16, 42, 180, 0, 40, 28, 1, 83, 132, 2, 1, 167, 255, 241, 42, 180, 0, 64, 180, 0, 94]
abbrev dktX1_load_2 : List UInt8 := dkwX1_load_2 ++ dktX1_load_3
def dkwX1_load_1 : List UInt8 := [89, 42, 27, 183, 0, 139, 182, 0, 142, 181, 0, 64, 42, 180, 0, 34, 182, 0, 145, 3, 61, 28, 5]
abbrev dktX1_load_1 : List UInt8 := dkwX1_load_1 ++ dktX1_load_2
def dkwX1_load_0 : List UInt8 := [27, 42, 180, 0, 131, 4, 96, 184, 0, 79, 42, 3, 181, 0, 134, 42, 2, 181, 0, 27, 42, 187, 0, 137]
abbrev dktX1_load_0 : List UInt8 := dkwX1_load_0 ++ dktX1_load_1
theorem dksX1_load_0 : cX1_load.data.toList.drop 0 = dktX1_load_0 := by decide +kernel
theorem dksX1_load_1 : cX1_load.data.toList.drop 24 = dktX1_load_1 := dk_seg dksX1_load_0 24 rfl rfl
theorem dksX1_load_2 : cX1_load.data.toList.drop 47 = dktX1_load_2 := dk_seg dksX1_load_1 23 rfl rfl
theorem dksX1_load_3 : cX1_load.data.toList.drop 70 = dktX1_load_3 := dk_seg dksX1_load_2 23 rfl rfl
theorem dksX1_load_4 : cX1_load.data.toList.drop 94 = dktX1_load_4 := dk_seg dksX1_load_3 24 rfl rfl
theorem dX1_load_0 : decode cX1_load 0 = .ok (.iload_n 1, 1) := dk_27 (dk_at dksX1_load_0 0 rfl rfl)
theorem dX1_load_1 : decode cX1_load 1 = .ok (.aload_n 0, 1) := dk_42 (dk_at dksX1_load_0 1 rfl rfl)
theorem dX1_load_2 : decode cX1_load 2 = .ok (.getfield 131, 3) := dk_180 0 131 (dk_at dksX1_load_0 2 rfl rfl)
theorem dX1_load_5 : decode cX1_load 5 = .ok (.iconst 1, 1) := dk_4 (dk_at dksX1_load_0 5 rfl rfl)
theorem dX1_load_6 : decode cX1_load 6 = .ok (.iadd, 1) := dk_96 (dk_at dksX1_load_0 6 rfl rfl)
theorem dX1_load_7 : decode cX1_load 7 = .ok (.invokestatic 79, 3) := dk_184 0 79 (dk_at dksX1_load_0 7 rfl rfl)
theorem dX1_load_10 : decode cX1_load 10 = .ok (.aload_n 0, 1) := dk_42 (dk_at dksX1_load_0 10 rfl rfl)
theorem dX1_load_11 : decode cX1_load 11 = .ok (.iconst 0, 1) := dk_3 (dk_at dksX1_load_0 11 rfl rfl)
theorem dX1_load_12 : decode cX1_load 12 = .ok (.putfield 134, 3) := dk_181 0 134 (dk_at dksX1_load_0 12 rfl rfl)
theorem dX1_load_15 : decode cX1_load 15 = .ok (.aload_n 0, 1) := dk_42 (dk_at dksX1_load_0 15 rfl rfl)
theorem dX1_load_16 : decode cX1_load 16 = .ok (.iconst (-1), 1) := dk_2 (dk_at dksX1_load_0 16 rfl rfl)
theorem dX1_load_17 : decode cX1_load 17 = .ok (.putfield 27, 3) := dk_181 0 27 (dk_at dksX1_load_0 17 rfl rfl)
theorem dX1_load_20 : decode cX1_load 20 = .ok (.aload_n 0, 1) := dk_42 (dk_at dksX1_load_0 20 rfl rfl)
theorem dX1_load_21 : decode cX1_load 21 = .ok (.new 137, 3) := dk_187 0 137 (dk_at dksX1_load_0 21 rfl rfl)
theorem dX1_load_24 : decode cX1_load 24 = .ok (.dup, 1) := dk_89 (dk_at dksX1_load_1 0 rfl rfl)
theorem dX1_load_25 : decode cX1_load 25 = .ok (.aload_n 0, 1) := dk_42 (dk_at dksX1_load_1 1 rfl rfl)
theorem dX1_load_26 : decode cX1_load 26 = .ok (.iload_n 1, 1) := dk_27 (dk_at dksX1_load_1 2 rfl rfl)
theorem dX1_load_27 : decode cX1_load 27 = .ok (.invokespecial 139, 3) := dk_183 0 139 (dk_at dksX1_load_1 3 rfl rfl)
theorem dX1_load_30 : decode cX1_load 30 = .ok (.invokevirtual 142, 3) := dk_182 0 142 (dk_at dksX1_load_1 6 rfl rfl)
theorem dX1_load_33 : decode cX1_load 33 = .ok (.putfield 64, 3) := dk_181 0 64 (dk_at dksX1_load_1 9 rfl rfl)
theorem dX1_load_36 : decode cX1_load 36 = .ok (.aload_n 0, 1) := dk_42 (dk_at dksX1_load_1 12 rfl rfl)
theorem dX1_load_37 : decode cX1_load 37 = .ok (.getfield 34, 3) := dk_180 0 34 (dk_at dksX1_load_1 13 rfl rfl)
theorem dX1_load_40 : decode cX1_load 40 = .ok (.invokevirtual 145, 3) := dk_182 0 145 (dk_at dksX1_load_1 16 rfl rfl)
theorem dX1_load_43 : decode cX1_load 43 = .ok (.iconst 0, 1) := dk_3 (dk_at dksX1_load_1 19 rfl rfl)
theorem dX1_load_44 : decode cX1_load 44 = .ok (.istore_n 2, 1) := dk_61 (dk_at dksX1_load_1 20 rfl rfl)
theorem dX1_load_45 : decode cX1_load 45 = .ok (.iload_n 2, 1) := dk_28 (dk_at dksX1_load_1 21 rfl rfl)
theorem dX1_load_46 : decode cX1_load 46 = .ok (.iconst 2, 1) := dk_5 (dk_at dksX1_load_1 22 rfl rfl)
theorem dX1_load_47 : decode cX1_load 47 = .ok (.if_icmp .ge 16, 3) := dk_162 0 16 (dk_at dksX1_load_2 0 rfl rfl)
theorem dX1_load_50 : decode cX1_load 50 = .ok (.aload_n 0, 1) := dk_42 (dk_at dksX1_load_2 3 rfl rfl)
theorem dX1_load_51 : decode cX1_load 51 = .ok (.getfield 40, 3) := dk_180 0 40 (dk_at dksX1_load_2 4 rfl rfl)
theorem dX1_load_54 : decode cX1_load 54 = .ok (.iload_n 2, 1) := dk_28 (dk_at dksX1_load_2 7 rfl rfl)
theorem dX1_load_55 : decode cX1_load 55 = .ok (.aconst_null, 1) := dk_1 (dk_at dksX1_load_2 8 rfl rfl)
theorem dX1_load_56 : decode cX1_load 56 = .ok (.aastore, 1) := dk_83 (dk_at dksX1_load_2 9 rfl rfl)
theorem dX1_load_57 : decode cX1_load 57 = .ok (.iinc 2 1, 3) := dk_132 2 1 (dk_at dksX1_load_2 10 rfl rfl)
theorem dX1_load_60 : decode cX1_load 60 = .ok (.goto (-15), 3) := dk_167 255 241 (dk_at dksX1_load_2 13 rfl rfl)
theorem dX1_load_63 : decode cX1_load 63 = .ok (.aload_n 0, 1) := dk_42 (dk_at dksX1_load_2 16 rfl rfl)
theorem dX1_load_64 : decode cX1_load 64 = .ok (.getfield 64, 3) := dk_180 0 64 (dk_at dksX1_load_2 17 rfl rfl)
theorem dX1_load_67 : decode cX1_load 67 = .ok (.getfield 94, 3) := dk_180 0 94 (dk_at dksX1_load_2 20 rfl rfl)
theorem dX1_load_70 : decode cX1_load 70 = .ok (.invokeinterface 3 1, 5) := by decide +kernel
theorem dX1_load_75 : decode cX1_load 75 = .ok (.istore_n 2, 1) := dk_61 (dk_at dksX1_load_3 5 rfl rfl)
theorem dX1_load_76 : decode cX1_load 76 = .ok (.aload_n 0, 1) := dk_42 (dk_at dksX1_load_3 6 rfl rfl)
theorem dX1_load_77 : decode cX1_load 77 = .ok (.iconst 0, 1) := dk_3 (dk_at dksX1_load_3 7 rfl rfl)
theorem dX1_load_78 : decode cX1_load 78 = .ok (.putfield 131, 3) := dk_181 0 131 (dk_at dksX1_load_3 8 rfl rfl)
theorem dX1_load_81 : decode cX1_load 81 = .ok (.iload_n 2, 1) := dk_28 (dk_at dksX1_load_3 11 rfl rfl)
theorem dX1_load_82 : decode cX1_load 82 = .ok (.ireturn, 1) := dk_172 (dk_at dksX1_load_3 12 rfl rfl)
theorem dX1_load_83 : decode cX1_load 83 = .ok (.astore_n 2, 1) := dk_77 (dk_at dksX1_load_3 13 rfl rfl)
theorem dX1_load_84 : decode cX1_load 84 = .ok (.aload_n 0, 1) := dk_42 (dk_at dksX1_load_3 14 rfl rfl)
theorem dX1_load_85 : decode cX1_load 85 = .ok (.aload_n 2, 1) := dk_44 (dk_at dksX1_load_3 15 rfl rfl)
theorem dX1_load_86 : decode cX1_load 86 = .ok (.getfield 150, 3) := dk_180 0 150 (dk_at dksX1_load_3 16 rfl rfl)
theorem dX1_load_89 : decode cX1_load 89 = .ok (.putfield 134, 3) := dk_181 0 134 (dk_at dksX1_load_3 19 rfl rfl)
theorem dX1_load_92 : decode cX1_load 92 = .ok (.aload_n 0, 1) := dk_42 (dk_at dksX1_load_3 22 rfl rfl)
theorem dX1_load_93 : decode cX1_load 93 = .ok (.aload_n 2, 1) := dk_44 (dk_at dksX1_load_3 23 rfl rfl)
theorem dX1_load_94 : decode cX1_load 94 = .ok (.getfield 153, 3) := dk_180 0 153 (dk_at dksX1_load_4 0 rfl rfl)
theorem dX1_load_97 : decode cX1_load 97 = .ok (.putfield 27, 3) := dk_181 0 27 (dk_at dksX1_load_4 3 rfl rfl)
theorem dX1_load_100 : decode cX1_load 100 = .ok (.new 51, 3) := dk_187 0 51 (dk_at dksX1_load_4 6 rfl rfl)
theorem dX1_load_103 : decode cX1_load 103 = .ok (.dup, 1) := dk_89 (dk_at dksX1_load_4 9 rfl rfl)
theorem dX1_load_104 : decode cX1_load 104 = .ok (.invokespecial 53, 3) := dk_183 0 53 (dk_at dksX1_load_4 10 rfl rfl)
theorem dX1_load_107 : decode cX1_load 107 = .ok (.athrow, 1) := dk_191 (dk_at dksX1_load_4 13 rfl rfl)
theorem dX1_load_108 : decode cX1_load 108 = .ok (.astore_n 3, 1) := dk_78 (dk_at dksX1_load_4 14 rfl rfl)
theorem dX1_load_109 : decode cX1_load 109 = .ok (.aload_n 0, 1) := dk_42 (dk_at dksX1_load_4 15 rfl rfl)
theorem dX1_load_110 : decode cX1_load 110 = .ok (.iconst 0, 1) := dk_3 (dk_at dksX1_load_4 16 rfl rfl)
theorem dX1_load_111 : decode cX1_load 111 = .ok (.putfield 131, 3) := dk_181 0 131 (dk_at dksX1_load_4 17 rfl rfl)
theorem dX1_load_114 : decode cX1_load 114 = .ok (.aload_n 3, 1) := dk_45 (dk_at dksX1_load_4 20 rfl rfl)
theorem dX1_load_115 : decode cX1_load 115 = .ok (.athrow, 1) := dk_191 (dk_at dksX1_load_4 21 rfl rfl)
abbrev cX1_checkIndex : ByteArray := prog_1_method_9_code
def yX1_checkIndex : MethodName := ⟨RX1, "checkIndex", "(II)V"⟩
def dkwX1_checkIndex_0 : List UInt8 := [26, 133, 9, 27, 4, 100, 133, 184, 0, 54, 154, 0, 11, 187, 0, 58, 89, 183, 0, 60, 191, 177]
abbrev dktX1_checkIndex_0 : List UInt8 := dkwX1_checkIndex_0 ++ []
theorem dksX1_checkIndex_0 : cX1_checkIndex.data.toList.drop 0 = dktX1_checkIndex_0 := by decide +kernel
theorem dX1_checkIndex_0 : decode cX1_checkIndex 0 = .ok (.iload_n 0, 1) := dk_26 (dk_at dksX1_checkIndex_0 0 rfl rfl)
theorem dX1_checkIndex_1 : decode cX1_checkIndex 1 = .ok (.i2l, 1) := dk_133 (dk_at dksX1_checkIndex_0 1 rfl rfl)
theorem dX1_checkIndex_2 : decode cX1_checkIndex 2 = .ok (.lconst 0, 1) := dk_9 (dk_at dksX1_checkIndex_0 2 rfl rfl)
theorem dX1_checkIndex_3 : decode cX1_checkIndex 3 = .ok (.iload_n 1, 1) := dk_27 (dk_at dksX1_checkIndex_0 3 rfl rfl)
theorem dX1_checkIndex_4 : decode cX1_checkIndex 4 = .ok (.iconst 1, 1) := dk_4 (dk_at dksX1_checkIndex_0 4 rfl rfl)
theorem dX1_checkIndex_5 : decode cX1_checkIndex 5 = .ok (.isub, 1) := dk_100 (dk_at dksX1_checkIndex_0 5 rfl rfl)
theorem dX1_checkIndex_6 : decode cX1_checkIndex 6 = .ok (.i2l, 1) := dk_133 (dk_at dksX1_checkIndex_0 6 rfl rfl)
theorem dX1_checkIndex_7 : decode cX1_checkIndex 7 = .ok (.invokestatic 54, 3) := dk_184 0 54 (dk_at dksX1_checkIndex_0 7 rfl rfl)
theorem dX1_checkIndex_10 : decode cX1_checkIndex 10 = .ok (.ifCond .ne 11, 3) := dk_154 0 11 (dk_at dksX1_checkIndex_0 10 rfl rfl)
theorem dX1_checkIndex_13 : decode cX1_checkIndex 13 = .ok (.new 58, 3) := dk_187 0 58 (dk_at dksX1_checkIndex_0 13 rfl rfl)
theorem dX1_checkIndex_16 : decode cX1_checkIndex 16 = .ok (.dup, 1) := dk_89 (dk_at dksX1_checkIndex_0 16 rfl rfl)
theorem dX1_checkIndex_17 : decode cX1_checkIndex 17 = .ok (.invokespecial 60, 3) := dk_183 0 60 (dk_at dksX1_checkIndex_0 17 rfl rfl)
theorem dX1_checkIndex_20 : decode cX1_checkIndex 20 = .ok (.athrow, 1) := dk_191 (dk_at dksX1_checkIndex_0 20 rfl rfl)
theorem dX1_checkIndex_21 : decode cX1_checkIndex 21 = .ok (.return_, 1) := dk_177 (dk_at dksX1_checkIndex_0 21 rfl rfl)
abbrev cX1_in : ByteArray := prog_1_method_1_code
def yX1_in : MethodName := ⟨RX1, "in", "(JJJ)Z"⟩
def dkwX1_in_0 : List UInt8 := [30, 32, 148, 155, 0, 14, 30, 22, 4, 148, 157, 0, 7, 4, 167, 0, 4, 3, 172]
abbrev dktX1_in_0 : List UInt8 := dkwX1_in_0 ++ []
theorem dksX1_in_0 : cX1_in.data.toList.drop 0 = dktX1_in_0 := by decide +kernel
theorem dX1_in_0 : decode cX1_in 0 = .ok (.lload_n 0, 1) := dk_30 (dk_at dksX1_in_0 0 rfl rfl)
theorem dX1_in_1 : decode cX1_in 1 = .ok (.lload_n 2, 1) := dk_32 (dk_at dksX1_in_0 1 rfl rfl)
theorem dX1_in_2 : decode cX1_in 2 = .ok (.lcmp, 1) := dk_148 (dk_at dksX1_in_0 2 rfl rfl)
theorem dX1_in_3 : decode cX1_in 3 = .ok (.ifCond .lt 14, 3) := dk_155 0 14 (dk_at dksX1_in_0 3 rfl rfl)
theorem dX1_in_6 : decode cX1_in 6 = .ok (.lload_n 0, 1) := dk_30 (dk_at dksX1_in_0 6 rfl rfl)
theorem dX1_in_7 : decode cX1_in 7 = .ok (.lload 4, 2) := dk_22 4 (dk_at dksX1_in_0 7 rfl rfl)
theorem dX1_in_9 : decode cX1_in 9 = .ok (.lcmp, 1) := dk_148 (dk_at dksX1_in_0 9 rfl rfl)
theorem dX1_in_10 : decode cX1_in 10 = .ok (.ifCond .gt 7, 3) := dk_157 0 7 (dk_at dksX1_in_0 10 rfl rfl)
theorem dX1_in_13 : decode cX1_in 13 = .ok (.iconst 1, 1) := dk_4 (dk_at dksX1_in_0 13 rfl rfl)
theorem dX1_in_14 : decode cX1_in 14 = .ok (.goto 4, 3) := dk_167 0 4 (dk_at dksX1_in_0 14 rfl rfl)
theorem dX1_in_17 : decode cX1_in 17 = .ok (.iconst 0, 1) := dk_3 (dk_at dksX1_in_0 17 rfl rfl)
theorem dX1_in_18 : decode cX1_in 18 = .ok (.ireturn, 1) := dk_172 (dk_at dksX1_in_0 18 rfl rfl)
abbrev cX1_wireOf : ByteArray := prog_1_method_6_code
def yX1_wireOf : MethodName := ⟨RX1, "wireOf", "(III)I"⟩
def dkwX1_wireOf_0 : List UInt8 := [16, 9, 26, 104, 6, 27, 104, 96, 28, 96, 172]
abbrev dktX1_wireOf_0 : List UInt8 := dkwX1_wireOf_0 ++ []
theorem dksX1_wireOf_0 : cX1_wireOf.data.toList.drop 0 = dktX1_wireOf_0 := by decide +kernel
theorem dX1_wireOf_0 : decode cX1_wireOf 0 = .ok (.bipush 9, 2) := dk_16 9 (dk_at dksX1_wireOf_0 0 rfl rfl)
theorem dX1_wireOf_2 : decode cX1_wireOf 2 = .ok (.iload_n 0, 1) := dk_26 (dk_at dksX1_wireOf_0 2 rfl rfl)
theorem dX1_wireOf_3 : decode cX1_wireOf 3 = .ok (.imul, 1) := dk_104 (dk_at dksX1_wireOf_0 3 rfl rfl)
theorem dX1_wireOf_4 : decode cX1_wireOf 4 = .ok (.iconst 3, 1) := dk_6 (dk_at dksX1_wireOf_0 4 rfl rfl)
theorem dX1_wireOf_5 : decode cX1_wireOf 5 = .ok (.iload_n 1, 1) := dk_27 (dk_at dksX1_wireOf_0 5 rfl rfl)
theorem dX1_wireOf_6 : decode cX1_wireOf 6 = .ok (.imul, 1) := dk_104 (dk_at dksX1_wireOf_0 6 rfl rfl)
theorem dX1_wireOf_7 : decode cX1_wireOf 7 = .ok (.iadd, 1) := dk_96 (dk_at dksX1_wireOf_0 7 rfl rfl)
theorem dX1_wireOf_8 : decode cX1_wireOf 8 = .ok (.iload_n 2, 1) := dk_28 (dk_at dksX1_wireOf_0 8 rfl rfl)
theorem dX1_wireOf_9 : decode cX1_wireOf 9 = .ok (.iadd, 1) := dk_96 (dk_at dksX1_wireOf_0 9 rfl rfl)
theorem dX1_wireOf_10 : decode cX1_wireOf 10 = .ok (.ireturn, 1) := dk_172 (dk_at dksX1_wireOf_0 10 rfl rfl)
abbrev cX1_same : ByteArray := prog_1_method_5_code
def yX1_same : MethodName := ⟨RX1, "same", "(II)[I"⟩
def dkwX1_same_0 : List UInt8 := [27, 188, 10, 77, 3, 62, 29, 27, 162, 0, 13, 44, 29, 26, 79, 132, 3, 1, 167, 255, 244, 44, 176]
abbrev dktX1_same_0 : List UInt8 := dkwX1_same_0 ++ []
theorem dksX1_same_0 : cX1_same.data.toList.drop 0 = dktX1_same_0 := by decide +kernel
theorem dX1_same_0 : decode cX1_same 0 = .ok (.iload_n 1, 1) := dk_27 (dk_at dksX1_same_0 0 rfl rfl)
theorem dX1_same_1 : decode cX1_same 1 = .ok (.newarray .int, 2) := dk_188_10 (dk_at dksX1_same_0 1 rfl rfl)
theorem dX1_same_3 : decode cX1_same 3 = .ok (.astore_n 2, 1) := dk_77 (dk_at dksX1_same_0 3 rfl rfl)
theorem dX1_same_4 : decode cX1_same 4 = .ok (.iconst 0, 1) := dk_3 (dk_at dksX1_same_0 4 rfl rfl)
theorem dX1_same_5 : decode cX1_same 5 = .ok (.istore_n 3, 1) := dk_62 (dk_at dksX1_same_0 5 rfl rfl)
theorem dX1_same_6 : decode cX1_same 6 = .ok (.iload_n 3, 1) := dk_29 (dk_at dksX1_same_0 6 rfl rfl)
theorem dX1_same_7 : decode cX1_same 7 = .ok (.iload_n 1, 1) := dk_27 (dk_at dksX1_same_0 7 rfl rfl)
theorem dX1_same_8 : decode cX1_same 8 = .ok (.if_icmp .ge 13, 3) := dk_162 0 13 (dk_at dksX1_same_0 8 rfl rfl)
theorem dX1_same_11 : decode cX1_same 11 = .ok (.aload_n 2, 1) := dk_44 (dk_at dksX1_same_0 11 rfl rfl)
theorem dX1_same_12 : decode cX1_same 12 = .ok (.iload_n 3, 1) := dk_29 (dk_at dksX1_same_0 12 rfl rfl)
theorem dX1_same_13 : decode cX1_same 13 = .ok (.iload_n 0, 1) := dk_26 (dk_at dksX1_same_0 13 rfl rfl)
theorem dX1_same_14 : decode cX1_same 14 = .ok (.iastore, 1) := dk_79 (dk_at dksX1_same_0 14 rfl rfl)
theorem dX1_same_15 : decode cX1_same 15 = .ok (.iinc 3 1, 3) := dk_132 3 1 (dk_at dksX1_same_0 15 rfl rfl)
theorem dX1_same_18 : decode cX1_same 18 = .ok (.goto (-12), 3) := dk_167 255 244 (dk_at dksX1_same_0 18 rfl rfl)
theorem dX1_same_21 : decode cX1_same 21 = .ok (.aload_n 2, 1) := dk_44 (dk_at dksX1_same_0 21 rfl rfl)
theorem dX1_same_22 : decode cX1_same 22 = .ok (.areturn, 1) := dk_176 (dk_at dksX1_same_0 22 rfl rfl)
abbrev cX1_flag : ByteArray := prog_1_method_2_code
def yX1_flag : MethodName := ⟨RX1, "flag", "(Z)I"⟩
def dkwX1_flag_0 : List UInt8 := [26, 153, 0, 7, 4, 167, 0, 4, 3, 172]
abbrev dktX1_flag_0 : List UInt8 := dkwX1_flag_0 ++ []
theorem dksX1_flag_0 : cX1_flag.data.toList.drop 0 = dktX1_flag_0 := by decide +kernel
theorem dX1_flag_0 : decode cX1_flag 0 = .ok (.iload_n 0, 1) := dk_26 (dk_at dksX1_flag_0 0 rfl rfl)
theorem dX1_flag_1 : decode cX1_flag 1 = .ok (.ifCond .eq 7, 3) := dk_153 0 7 (dk_at dksX1_flag_0 1 rfl rfl)
theorem dX1_flag_4 : decode cX1_flag 4 = .ok (.iconst 1, 1) := dk_4 (dk_at dksX1_flag_0 4 rfl rfl)
theorem dX1_flag_5 : decode cX1_flag 5 = .ok (.goto 4, 3) := dk_167 0 4 (dk_at dksX1_flag_0 5 rfl rfl)
theorem dX1_flag_8 : decode cX1_flag 8 = .ok (.iconst 0, 1) := dk_3 (dk_at dksX1_flag_0 8 rfl rfl)
theorem dX1_flag_9 : decode cX1_flag 9 = .ok (.ireturn, 1) := dk_172 (dk_at dksX1_flag_0 9 rfl rfl)
abbrev cX1_agreed : ByteArray := prog_1_method_3_code
def yX1_agreed : MethodName := ⟨RX1, "agreed", "(III)I"⟩
def dkwX1_agreed_1 : List UInt8 := [27, 167, 0, 17, 2, 167, 0, 13, 27, 28, 160, 0, 7, 27, 167, 0, 4, 2, 172]
abbrev dktX1_agreed_1 : List UInt8 := dkwX1_agreed_1 ++ []
def dkwX1_agreed_0 : List UInt8 := [26, 27, 159, 0, 8, 26, 28, 160, 0, 25, 26, 2, 159, 0, 7, 26, 167, 0, 26, 27, 28, 160, 0, 7]
abbrev dktX1_agreed_0 : List UInt8 := dkwX1_agreed_0 ++ dktX1_agreed_1
theorem dksX1_agreed_0 : cX1_agreed.data.toList.drop 0 = dktX1_agreed_0 := by decide +kernel
theorem dksX1_agreed_1 : cX1_agreed.data.toList.drop 24 = dktX1_agreed_1 := dk_seg dksX1_agreed_0 24 rfl rfl
theorem dX1_agreed_0 : decode cX1_agreed 0 = .ok (.iload_n 0, 1) := dk_26 (dk_at dksX1_agreed_0 0 rfl rfl)
theorem dX1_agreed_1 : decode cX1_agreed 1 = .ok (.iload_n 1, 1) := dk_27 (dk_at dksX1_agreed_0 1 rfl rfl)
theorem dX1_agreed_2 : decode cX1_agreed 2 = .ok (.if_icmp .eq 8, 3) := dk_159 0 8 (dk_at dksX1_agreed_0 2 rfl rfl)
theorem dX1_agreed_5 : decode cX1_agreed 5 = .ok (.iload_n 0, 1) := dk_26 (dk_at dksX1_agreed_0 5 rfl rfl)
theorem dX1_agreed_6 : decode cX1_agreed 6 = .ok (.iload_n 2, 1) := dk_28 (dk_at dksX1_agreed_0 6 rfl rfl)
theorem dX1_agreed_7 : decode cX1_agreed 7 = .ok (.if_icmp .ne 25, 3) := dk_160 0 25 (dk_at dksX1_agreed_0 7 rfl rfl)
theorem dX1_agreed_10 : decode cX1_agreed 10 = .ok (.iload_n 0, 1) := dk_26 (dk_at dksX1_agreed_0 10 rfl rfl)
theorem dX1_agreed_11 : decode cX1_agreed 11 = .ok (.iconst (-1), 1) := dk_2 (dk_at dksX1_agreed_0 11 rfl rfl)
theorem dX1_agreed_12 : decode cX1_agreed 12 = .ok (.if_icmp .eq 7, 3) := dk_159 0 7 (dk_at dksX1_agreed_0 12 rfl rfl)
theorem dX1_agreed_15 : decode cX1_agreed 15 = .ok (.iload_n 0, 1) := dk_26 (dk_at dksX1_agreed_0 15 rfl rfl)
theorem dX1_agreed_16 : decode cX1_agreed 16 = .ok (.goto 26, 3) := dk_167 0 26 (dk_at dksX1_agreed_0 16 rfl rfl)
theorem dX1_agreed_19 : decode cX1_agreed 19 = .ok (.iload_n 1, 1) := dk_27 (dk_at dksX1_agreed_0 19 rfl rfl)
theorem dX1_agreed_20 : decode cX1_agreed 20 = .ok (.iload_n 2, 1) := dk_28 (dk_at dksX1_agreed_0 20 rfl rfl)
theorem dX1_agreed_21 : decode cX1_agreed 21 = .ok (.if_icmp .ne 7, 3) := dk_160 0 7 (dk_at dksX1_agreed_0 21 rfl rfl)
theorem dX1_agreed_24 : decode cX1_agreed 24 = .ok (.iload_n 1, 1) := dk_27 (dk_at dksX1_agreed_1 0 rfl rfl)
theorem dX1_agreed_25 : decode cX1_agreed 25 = .ok (.goto 17, 3) := dk_167 0 17 (dk_at dksX1_agreed_1 1 rfl rfl)
theorem dX1_agreed_28 : decode cX1_agreed 28 = .ok (.iconst (-1), 1) := dk_2 (dk_at dksX1_agreed_1 4 rfl rfl)
theorem dX1_agreed_29 : decode cX1_agreed 29 = .ok (.goto 13, 3) := dk_167 0 13 (dk_at dksX1_agreed_1 5 rfl rfl)
theorem dX1_agreed_32 : decode cX1_agreed 32 = .ok (.iload_n 1, 1) := dk_27 (dk_at dksX1_agreed_1 8 rfl rfl)
theorem dX1_agreed_33 : decode cX1_agreed 33 = .ok (.iload_n 2, 1) := dk_28 (dk_at dksX1_agreed_1 9 rfl rfl)
theorem dX1_agreed_34 : decode cX1_agreed 34 = .ok (.if_icmp .ne 7, 3) := dk_160 0 7 (dk_at dksX1_agreed_1 10 rfl rfl)
theorem dX1_agreed_37 : decode cX1_agreed 37 = .ok (.iload_n 1, 1) := dk_27 (dk_at dksX1_agreed_1 13 rfl rfl)
theorem dX1_agreed_38 : decode cX1_agreed 38 = .ok (.goto 4, 3) := dk_167 0 4 (dk_at dksX1_agreed_1 14 rfl rfl)
theorem dX1_agreed_41 : decode cX1_agreed 41 = .ok (.iconst (-1), 1) := dk_2 (dk_at dksX1_agreed_1 17 rfl rfl)
theorem dX1_agreed_42 : decode cX1_agreed 42 = .ok (.ireturn, 1) := dk_172 (dk_at dksX1_agreed_1 18 rfl rfl)
abbrev cX1_count : ByteArray := prog_1_method_26_code
def yX1_count : MethodName := ⟨RX1, "count", "(I)I"⟩
def dkwX1_count_6 : List UInt8 := [167, 0, 21, 44, 180, 0, 87, 27, 16, 11, 160, 0, 7, 4, 167, 0, 4, 3, 182, 0, 179, 172]
abbrev dktX1_count_6 : List UInt8 := dkwX1_count_6 ++ []
def dkwX1_count_5 : List UInt8 := [180, 0, 87, 180, 0, 170, 167, 0, 38, 44, 180, 0, 87, 180, 0, 173, 167, 0, 28, 44, 180, 0, 176]
abbrev dktX1_count_5 : List UInt8 := dkwX1_count_5 ++ dktX1_count_6
def dkwX1_count_4 : List UInt8 := [100, 167, 0, 65, 44, 182, 0, 164, 167, 0, 58, 44, 180, 0, 87, 180, 0, 167, 167, 0, 48, 44]
abbrev dktX1_count_4 : List UInt8 := dkwX1_count_4 ++ dktX1_count_5
def dkwX1_count_3 : List UInt8 := [180, 0, 94, 185, 0, 3, 1, 0, 167, 0, 82, 44, 180, 0, 94, 185, 0, 3, 1, 0, 44, 182, 0, 164]
abbrev dktX1_count_3 : List UInt8 := dkwX1_count_3 ++ dktX1_count_4
def dkwX1_count_2 : List UInt8 := [44, 180, 0, 76, 167, 0, 108, 44, 180, 0, 158, 167, 0, 101, 44, 180, 0, 161, 167, 0, 94, 44]
abbrev dktX1_count_2 : List UInt8 := dkwX1_count_2 ++ dktX1_count_3
def dkwX1_count_1 : List UInt8 := [170, 0, 0, 0, 0, 148, 0, 0, 0, 0, 0, 0, 0, 9, 0, 0, 0, 54, 0, 0, 0, 61, 0, 0, 0, 68, 0, 0, 0, 75, 0, 0, 0, 87, 0, 0, 0, 104, 0, 0, 0, 111, 0, 0, 0, 121, 0, 0, 0, 131, 0, 0, 0, 141]
abbrev dktX1_count_1 : List UInt8 := dkwX1_count_1 ++ dktX1_count_2
def dkwX1_count_0 : List UInt8 := [42, 182, 0, 72, 77, 27, 133, 9, 20, 0, 156, 184, 0, 54, 184, 0, 116, 27]
abbrev dktX1_count_0 : List UInt8 := dkwX1_count_0 ++ dktX1_count_1
theorem dksX1_count_0 : cX1_count.data.toList.drop 0 = dktX1_count_0 := by decide +kernel
theorem dksX1_count_1 : cX1_count.data.toList.drop 18 = dktX1_count_1 := dk_seg dksX1_count_0 18 rfl rfl
theorem dksX1_count_2 : cX1_count.data.toList.drop 72 = dktX1_count_2 := dk_seg dksX1_count_1 54 rfl rfl
theorem dksX1_count_3 : cX1_count.data.toList.drop 94 = dktX1_count_3 := dk_seg dksX1_count_2 22 rfl rfl
theorem dksX1_count_4 : cX1_count.data.toList.drop 118 = dktX1_count_4 := dk_seg dksX1_count_3 24 rfl rfl
theorem dksX1_count_5 : cX1_count.data.toList.drop 140 = dktX1_count_5 := dk_seg dksX1_count_4 22 rfl rfl
theorem dksX1_count_6 : cX1_count.data.toList.drop 163 = dktX1_count_6 := dk_seg dksX1_count_5 23 rfl rfl
theorem dX1_count_0 : decode cX1_count 0 = .ok (.aload_n 0, 1) := dk_42 (dk_at dksX1_count_0 0 rfl rfl)
theorem dX1_count_1 : decode cX1_count 1 = .ok (.invokevirtual 72, 3) := dk_182 0 72 (dk_at dksX1_count_0 1 rfl rfl)
theorem dX1_count_4 : decode cX1_count 4 = .ok (.astore_n 2, 1) := dk_77 (dk_at dksX1_count_0 4 rfl rfl)
theorem dX1_count_5 : decode cX1_count 5 = .ok (.iload_n 1, 1) := dk_27 (dk_at dksX1_count_0 5 rfl rfl)
theorem dX1_count_6 : decode cX1_count 6 = .ok (.i2l, 1) := dk_133 (dk_at dksX1_count_0 6 rfl rfl)
theorem dX1_count_7 : decode cX1_count 7 = .ok (.lconst 0, 1) := dk_9 (dk_at dksX1_count_0 7 rfl rfl)
theorem dX1_count_8 : decode cX1_count 8 = .ok (.ldc2_w 156, 3) := dk_20 0 156 (dk_at dksX1_count_0 8 rfl rfl)
theorem dX1_count_11 : decode cX1_count 11 = .ok (.invokestatic 54, 3) := dk_184 0 54 (dk_at dksX1_count_0 11 rfl rfl)
theorem dX1_count_14 : decode cX1_count 14 = .ok (.invokestatic 116, 3) := dk_184 0 116 (dk_at dksX1_count_0 14 rfl rfl)
theorem dX1_count_17 : decode cX1_count 17 = .ok (.iload_n 1, 1) := dk_27 (dk_at dksX1_count_0 17 rfl rfl)
theorem dX1_count_18 : decode cX1_count 18 = .ok (.tableswitch 148 0 9 #[54, 61, 68, 75, 87, 104, 111, 121, 131, 141], 54) := by decide +kernel
theorem dX1_count_72 : decode cX1_count 72 = .ok (.aload_n 2, 1) := dk_44 (dk_at dksX1_count_2 0 rfl rfl)
theorem dX1_count_73 : decode cX1_count 73 = .ok (.getfield 76, 3) := dk_180 0 76 (dk_at dksX1_count_2 1 rfl rfl)
theorem dX1_count_76 : decode cX1_count 76 = .ok (.goto 108, 3) := dk_167 0 108 (dk_at dksX1_count_2 4 rfl rfl)
theorem dX1_count_79 : decode cX1_count 79 = .ok (.aload_n 2, 1) := dk_44 (dk_at dksX1_count_2 7 rfl rfl)
theorem dX1_count_80 : decode cX1_count 80 = .ok (.getfield 158, 3) := dk_180 0 158 (dk_at dksX1_count_2 8 rfl rfl)
theorem dX1_count_83 : decode cX1_count 83 = .ok (.goto 101, 3) := dk_167 0 101 (dk_at dksX1_count_2 11 rfl rfl)
theorem dX1_count_86 : decode cX1_count 86 = .ok (.aload_n 2, 1) := dk_44 (dk_at dksX1_count_2 14 rfl rfl)
theorem dX1_count_87 : decode cX1_count 87 = .ok (.getfield 161, 3) := dk_180 0 161 (dk_at dksX1_count_2 15 rfl rfl)
theorem dX1_count_90 : decode cX1_count 90 = .ok (.goto 94, 3) := dk_167 0 94 (dk_at dksX1_count_2 18 rfl rfl)
theorem dX1_count_93 : decode cX1_count 93 = .ok (.aload_n 2, 1) := dk_44 (dk_at dksX1_count_2 21 rfl rfl)
theorem dX1_count_94 : decode cX1_count 94 = .ok (.getfield 94, 3) := dk_180 0 94 (dk_at dksX1_count_3 0 rfl rfl)
theorem dX1_count_97 : decode cX1_count 97 = .ok (.invokeinterface 3 1, 5) := by decide +kernel
theorem dX1_count_102 : decode cX1_count 102 = .ok (.goto 82, 3) := dk_167 0 82 (dk_at dksX1_count_3 8 rfl rfl)
theorem dX1_count_105 : decode cX1_count 105 = .ok (.aload_n 2, 1) := dk_44 (dk_at dksX1_count_3 11 rfl rfl)
theorem dX1_count_106 : decode cX1_count 106 = .ok (.getfield 94, 3) := dk_180 0 94 (dk_at dksX1_count_3 12 rfl rfl)
theorem dX1_count_109 : decode cX1_count 109 = .ok (.invokeinterface 3 1, 5) := by decide +kernel
theorem dX1_count_114 : decode cX1_count 114 = .ok (.aload_n 2, 1) := dk_44 (dk_at dksX1_count_3 20 rfl rfl)
theorem dX1_count_115 : decode cX1_count 115 = .ok (.invokevirtual 164, 3) := dk_182 0 164 (dk_at dksX1_count_3 21 rfl rfl)
theorem dX1_count_118 : decode cX1_count 118 = .ok (.isub, 1) := dk_100 (dk_at dksX1_count_4 0 rfl rfl)
theorem dX1_count_119 : decode cX1_count 119 = .ok (.goto 65, 3) := dk_167 0 65 (dk_at dksX1_count_4 1 rfl rfl)
theorem dX1_count_122 : decode cX1_count 122 = .ok (.aload_n 2, 1) := dk_44 (dk_at dksX1_count_4 4 rfl rfl)
theorem dX1_count_123 : decode cX1_count 123 = .ok (.invokevirtual 164, 3) := dk_182 0 164 (dk_at dksX1_count_4 5 rfl rfl)
theorem dX1_count_126 : decode cX1_count 126 = .ok (.goto 58, 3) := dk_167 0 58 (dk_at dksX1_count_4 8 rfl rfl)
theorem dX1_count_129 : decode cX1_count 129 = .ok (.aload_n 2, 1) := dk_44 (dk_at dksX1_count_4 11 rfl rfl)
theorem dX1_count_130 : decode cX1_count 130 = .ok (.getfield 87, 3) := dk_180 0 87 (dk_at dksX1_count_4 12 rfl rfl)
theorem dX1_count_133 : decode cX1_count 133 = .ok (.getfield 167, 3) := dk_180 0 167 (dk_at dksX1_count_4 15 rfl rfl)
theorem dX1_count_136 : decode cX1_count 136 = .ok (.goto 48, 3) := dk_167 0 48 (dk_at dksX1_count_4 18 rfl rfl)
theorem dX1_count_139 : decode cX1_count 139 = .ok (.aload_n 2, 1) := dk_44 (dk_at dksX1_count_4 21 rfl rfl)
theorem dX1_count_140 : decode cX1_count 140 = .ok (.getfield 87, 3) := dk_180 0 87 (dk_at dksX1_count_5 0 rfl rfl)
theorem dX1_count_143 : decode cX1_count 143 = .ok (.getfield 170, 3) := dk_180 0 170 (dk_at dksX1_count_5 3 rfl rfl)
theorem dX1_count_146 : decode cX1_count 146 = .ok (.goto 38, 3) := dk_167 0 38 (dk_at dksX1_count_5 6 rfl rfl)
theorem dX1_count_149 : decode cX1_count 149 = .ok (.aload_n 2, 1) := dk_44 (dk_at dksX1_count_5 9 rfl rfl)
theorem dX1_count_150 : decode cX1_count 150 = .ok (.getfield 87, 3) := dk_180 0 87 (dk_at dksX1_count_5 10 rfl rfl)
theorem dX1_count_153 : decode cX1_count 153 = .ok (.getfield 173, 3) := dk_180 0 173 (dk_at dksX1_count_5 13 rfl rfl)
theorem dX1_count_156 : decode cX1_count 156 = .ok (.goto 28, 3) := dk_167 0 28 (dk_at dksX1_count_5 16 rfl rfl)
theorem dX1_count_159 : decode cX1_count 159 = .ok (.aload_n 2, 1) := dk_44 (dk_at dksX1_count_5 19 rfl rfl)
theorem dX1_count_160 : decode cX1_count 160 = .ok (.getfield 176, 3) := dk_180 0 176 (dk_at dksX1_count_5 20 rfl rfl)
theorem dX1_count_163 : decode cX1_count 163 = .ok (.goto 21, 3) := dk_167 0 21 (dk_at dksX1_count_6 0 rfl rfl)
theorem dX1_count_166 : decode cX1_count 166 = .ok (.aload_n 2, 1) := dk_44 (dk_at dksX1_count_6 3 rfl rfl)
theorem dX1_count_167 : decode cX1_count 167 = .ok (.getfield 87, 3) := dk_180 0 87 (dk_at dksX1_count_6 4 rfl rfl)
theorem dX1_count_170 : decode cX1_count 170 = .ok (.iload_n 1, 1) := dk_27 (dk_at dksX1_count_6 7 rfl rfl)
theorem dX1_count_171 : decode cX1_count 171 = .ok (.bipush 11, 2) := dk_16 11 (dk_at dksX1_count_6 8 rfl rfl)
theorem dX1_count_173 : decode cX1_count 173 = .ok (.if_icmp .ne 7, 3) := dk_160 0 7 (dk_at dksX1_count_6 10 rfl rfl)
theorem dX1_count_176 : decode cX1_count 176 = .ok (.iconst 1, 1) := dk_4 (dk_at dksX1_count_6 13 rfl rfl)
theorem dX1_count_177 : decode cX1_count 177 = .ok (.goto 4, 3) := dk_167 0 4 (dk_at dksX1_count_6 14 rfl rfl)
theorem dX1_count_180 : decode cX1_count 180 = .ok (.iconst 0, 1) := dk_3 (dk_at dksX1_count_6 17 rfl rfl)
theorem dX1_count_181 : decode cX1_count 181 = .ok (.invokevirtual 179, 3) := dk_182 0 179 (dk_at dksX1_count_6 18 rfl rfl)
theorem dX1_count_184 : decode cX1_count 184 = .ok (.ireturn, 1) := dk_172 (dk_at dksX1_count_6 21 rfl rfl)
abbrev cX1_loaded : ByteArray := prog_1_method_11_code
def yX1_loaded : MethodName := ⟨RX1, "loaded", "()LVotingHuts$World;"⟩
def dkwX1_loaded_0 : List UInt8 := [42, 180, 0, 64, 198, 0, 7, 4, 167, 0, 4, 3, 184, 0, 68, 42, 180, 0, 64, 176]
abbrev dktX1_loaded_0 : List UInt8 := dkwX1_loaded_0 ++ []
theorem dksX1_loaded_0 : cX1_loaded.data.toList.drop 0 = dktX1_loaded_0 := by decide +kernel
theorem dX1_loaded_0 : decode cX1_loaded 0 = .ok (.aload_n 0, 1) := dk_42 (dk_at dksX1_loaded_0 0 rfl rfl)
theorem dX1_loaded_1 : decode cX1_loaded 1 = .ok (.getfield 64, 3) := dk_180 0 64 (dk_at dksX1_loaded_0 1 rfl rfl)
theorem dX1_loaded_4 : decode cX1_loaded 4 = .ok (.ifnull 7, 3) := dk_198 0 7 (dk_at dksX1_loaded_0 4 rfl rfl)
theorem dX1_loaded_7 : decode cX1_loaded 7 = .ok (.iconst 1, 1) := dk_4 (dk_at dksX1_loaded_0 7 rfl rfl)
theorem dX1_loaded_8 : decode cX1_loaded 8 = .ok (.goto 4, 3) := dk_167 0 4 (dk_at dksX1_loaded_0 8 rfl rfl)
theorem dX1_loaded_11 : decode cX1_loaded 11 = .ok (.iconst 0, 1) := dk_3 (dk_at dksX1_loaded_0 11 rfl rfl)
theorem dX1_loaded_12 : decode cX1_loaded 12 = .ok (.invokestatic 68, 3) := dk_184 0 68 (dk_at dksX1_loaded_0 12 rfl rfl)
theorem dX1_loaded_15 : decode cX1_loaded 15 = .ok (.aload_n 0, 1) := dk_42 (dk_at dksX1_loaded_0 15 rfl rfl)
theorem dX1_loaded_16 : decode cX1_loaded 16 = .ok (.getfield 64, 3) := dk_180 0 64 (dk_at dksX1_loaded_0 16 rfl rfl)
theorem dX1_loaded_19 : decode cX1_loaded 19 = .ok (.areturn, 1) := dk_176 (dk_at dksX1_loaded_0 19 rfl rfl)
abbrev cX1_checkState : ByteArray := prog_1_method_10_code
def yX1_checkState : MethodName := ⟨RX1, "checkState", "(Z)V"⟩
def dkwX1_checkState_0 : List UInt8 := [26, 154, 0, 11, 187, 0, 61, 89, 183, 0, 63, 191, 177]
abbrev dktX1_checkState_0 : List UInt8 := dkwX1_checkState_0 ++ []
theorem dksX1_checkState_0 : cX1_checkState.data.toList.drop 0 = dktX1_checkState_0 := by decide +kernel
theorem dX1_checkState_0 : decode cX1_checkState 0 = .ok (.iload_n 0, 1) := dk_26 (dk_at dksX1_checkState_0 0 rfl rfl)
theorem dX1_checkState_1 : decode cX1_checkState 1 = .ok (.ifCond .ne 11, 3) := dk_154 0 11 (dk_at dksX1_checkState_0 1 rfl rfl)
theorem dX1_checkState_4 : decode cX1_checkState 4 = .ok (.new 61, 3) := dk_187 0 61 (dk_at dksX1_checkState_0 4 rfl rfl)
theorem dX1_checkState_7 : decode cX1_checkState 7 = .ok (.dup, 1) := dk_89 (dk_at dksX1_checkState_0 7 rfl rfl)
theorem dX1_checkState_8 : decode cX1_checkState 8 = .ok (.invokespecial 63, 3) := dk_183 0 63 (dk_at dksX1_checkState_0 8 rfl rfl)
theorem dX1_checkState_11 : decode cX1_checkState 11 = .ok (.athrow, 1) := dk_191 (dk_at dksX1_checkState_0 11 rfl rfl)
theorem dX1_checkState_12 : decode cX1_checkState 12 = .ok (.return_, 1) := dk_177 (dk_at dksX1_checkState_0 12 rfl rfl)
abbrev cX1_checkArgument : ByteArray := prog_1_method_8_code
def yX1_checkArgument : MethodName := ⟨RX1, "checkArgument", "(Z)V"⟩
def dkwX1_checkArgument_0 : List UInt8 := [26, 154, 0, 11, 187, 0, 51, 89, 183, 0, 53, 191, 177]
abbrev dktX1_checkArgument_0 : List UInt8 := dkwX1_checkArgument_0 ++ []
theorem dksX1_checkArgument_0 : cX1_checkArgument.data.toList.drop 0 = dktX1_checkArgument_0 := by decide +kernel
theorem dX1_checkArgument_0 : decode cX1_checkArgument 0 = .ok (.iload_n 0, 1) := dk_26 (dk_at dksX1_checkArgument_0 0 rfl rfl)
theorem dX1_checkArgument_1 : decode cX1_checkArgument 1 = .ok (.ifCond .ne 11, 3) := dk_154 0 11 (dk_at dksX1_checkArgument_0 1 rfl rfl)
theorem dX1_checkArgument_4 : decode cX1_checkArgument 4 = .ok (.new 51, 3) := dk_187 0 51 (dk_at dksX1_checkArgument_0 4 rfl rfl)
theorem dX1_checkArgument_7 : decode cX1_checkArgument 7 = .ok (.dup, 1) := dk_89 (dk_at dksX1_checkArgument_0 7 rfl rfl)
theorem dX1_checkArgument_8 : decode cX1_checkArgument 8 = .ok (.invokespecial 53, 3) := dk_183 0 53 (dk_at dksX1_checkArgument_0 8 rfl rfl)
theorem dX1_checkArgument_11 : decode cX1_checkArgument 11 = .ok (.athrow, 1) := dk_191 (dk_at dksX1_checkArgument_0 11 rfl rfl)
theorem dX1_checkArgument_12 : decode cX1_checkArgument 12 = .ok (.return_, 1) := dk_177 (dk_at dksX1_checkArgument_0 12 rfl rfl)
abbrev cX1_wire : ByteArray := prog_1_method_27_code
def yX1_wire : MethodName := ⟨RX1, "wire", "(IIII)I"⟩
def dkwX1_wire_4 : List UInt8 := [25, 6, 180, 0, 203, 21, 5, 46, 167, 0, 11, 187, 0, 51, 89, 183, 0, 53, 191, 172]
abbrev dktX1_wire_4 : List UInt8 := dkwX1_wire_4 ++ []
def dkwX1_wire_3 : List UInt8 := [180, 0, 193, 21, 5, 51, 184, 0, 197, 167, 0, 33, 25, 6, 180, 0, 200, 21, 5, 46, 167, 0, 22]
abbrev dktX1_wire_3 : List UInt8 := dkwX1_wire_3 ++ dktX1_wire_4
def dkwX1_wire_2 : List UInt8 := [25, 6, 180, 0, 186, 21, 5, 46, 167, 0, 58, 25, 6, 180, 0, 190, 21, 5, 46, 167, 0, 47, 25, 6]
abbrev dktX1_wire_2 : List UInt8 := dkwX1_wire_2 ++ dktX1_wire_3
def dkwX1_wire_1 : List UInt8 := [170, 0, 0, 0, 0, 0, 0, 94, 0, 0, 0, 0, 0, 0, 0, 4, 0, 0, 0, 36, 0, 0, 0, 47, 0, 0, 0, 58, 0, 0, 0, 72, 0, 0, 0, 83]
abbrev dktX1_wire_1 : List UInt8 := dkwX1_wire_1 ++ dktX1_wire_2
def dkwX1_wire_0 : List UInt8 := [42, 27, 28, 29, 182, 0, 183, 54, 5, 42, 180, 0, 64, 180, 0, 87, 58, 6, 21, 4]
abbrev dktX1_wire_0 : List UInt8 := dkwX1_wire_0 ++ dktX1_wire_1
theorem dksX1_wire_0 : cX1_wire.data.toList.drop 0 = dktX1_wire_0 := by decide +kernel
theorem dksX1_wire_1 : cX1_wire.data.toList.drop 20 = dktX1_wire_1 := dk_seg dksX1_wire_0 20 rfl rfl
theorem dksX1_wire_2 : cX1_wire.data.toList.drop 56 = dktX1_wire_2 := dk_seg dksX1_wire_1 36 rfl rfl
theorem dksX1_wire_3 : cX1_wire.data.toList.drop 80 = dktX1_wire_3 := dk_seg dksX1_wire_2 24 rfl rfl
theorem dksX1_wire_4 : cX1_wire.data.toList.drop 103 = dktX1_wire_4 := dk_seg dksX1_wire_3 23 rfl rfl
theorem dX1_wire_0 : decode cX1_wire 0 = .ok (.aload_n 0, 1) := dk_42 (dk_at dksX1_wire_0 0 rfl rfl)
theorem dX1_wire_1 : decode cX1_wire 1 = .ok (.iload_n 1, 1) := dk_27 (dk_at dksX1_wire_0 1 rfl rfl)
theorem dX1_wire_2 : decode cX1_wire 2 = .ok (.iload_n 2, 1) := dk_28 (dk_at dksX1_wire_0 2 rfl rfl)
theorem dX1_wire_3 : decode cX1_wire 3 = .ok (.iload_n 3, 1) := dk_29 (dk_at dksX1_wire_0 3 rfl rfl)
theorem dX1_wire_4 : decode cX1_wire 4 = .ok (.invokevirtual 183, 3) := dk_182 0 183 (dk_at dksX1_wire_0 4 rfl rfl)
theorem dX1_wire_7 : decode cX1_wire 7 = .ok (.istore 5, 2) := dk_54 5 (dk_at dksX1_wire_0 7 rfl rfl)
theorem dX1_wire_9 : decode cX1_wire 9 = .ok (.aload_n 0, 1) := dk_42 (dk_at dksX1_wire_0 9 rfl rfl)
theorem dX1_wire_10 : decode cX1_wire 10 = .ok (.getfield 64, 3) := dk_180 0 64 (dk_at dksX1_wire_0 10 rfl rfl)
theorem dX1_wire_13 : decode cX1_wire 13 = .ok (.getfield 87, 3) := dk_180 0 87 (dk_at dksX1_wire_0 13 rfl rfl)
theorem dX1_wire_16 : decode cX1_wire 16 = .ok (.astore 6, 2) := dk_58 6 (dk_at dksX1_wire_0 16 rfl rfl)
theorem dX1_wire_18 : decode cX1_wire 18 = .ok (.iload 4, 2) := dk_21 4 (dk_at dksX1_wire_0 18 rfl rfl)
theorem dX1_wire_20 : decode cX1_wire 20 = .ok (.tableswitch 94 0 4 #[36, 47, 58, 72, 83], 36) := by decide +kernel
theorem dX1_wire_56 : decode cX1_wire 56 = .ok (.aload 6, 2) := dk_25 6 (dk_at dksX1_wire_2 0 rfl rfl)
theorem dX1_wire_58 : decode cX1_wire 58 = .ok (.getfield 186, 3) := dk_180 0 186 (dk_at dksX1_wire_2 2 rfl rfl)
theorem dX1_wire_61 : decode cX1_wire 61 = .ok (.iload 5, 2) := dk_21 5 (dk_at dksX1_wire_2 5 rfl rfl)
theorem dX1_wire_63 : decode cX1_wire 63 = .ok (.iaload, 1) := dk_46 (dk_at dksX1_wire_2 7 rfl rfl)
theorem dX1_wire_64 : decode cX1_wire 64 = .ok (.goto 58, 3) := dk_167 0 58 (dk_at dksX1_wire_2 8 rfl rfl)
theorem dX1_wire_67 : decode cX1_wire 67 = .ok (.aload 6, 2) := dk_25 6 (dk_at dksX1_wire_2 11 rfl rfl)
theorem dX1_wire_69 : decode cX1_wire 69 = .ok (.getfield 190, 3) := dk_180 0 190 (dk_at dksX1_wire_2 13 rfl rfl)
theorem dX1_wire_72 : decode cX1_wire 72 = .ok (.iload 5, 2) := dk_21 5 (dk_at dksX1_wire_2 16 rfl rfl)
theorem dX1_wire_74 : decode cX1_wire 74 = .ok (.iaload, 1) := dk_46 (dk_at dksX1_wire_2 18 rfl rfl)
theorem dX1_wire_75 : decode cX1_wire 75 = .ok (.goto 47, 3) := dk_167 0 47 (dk_at dksX1_wire_2 19 rfl rfl)
theorem dX1_wire_78 : decode cX1_wire 78 = .ok (.aload 6, 2) := dk_25 6 (dk_at dksX1_wire_2 22 rfl rfl)
theorem dX1_wire_80 : decode cX1_wire 80 = .ok (.getfield 193, 3) := dk_180 0 193 (dk_at dksX1_wire_3 0 rfl rfl)
theorem dX1_wire_83 : decode cX1_wire 83 = .ok (.iload 5, 2) := dk_21 5 (dk_at dksX1_wire_3 3 rfl rfl)
theorem dX1_wire_85 : decode cX1_wire 85 = .ok (.baload, 1) := dk_51 (dk_at dksX1_wire_3 5 rfl rfl)
theorem dX1_wire_86 : decode cX1_wire 86 = .ok (.invokestatic 197, 3) := dk_184 0 197 (dk_at dksX1_wire_3 6 rfl rfl)
theorem dX1_wire_89 : decode cX1_wire 89 = .ok (.goto 33, 3) := dk_167 0 33 (dk_at dksX1_wire_3 9 rfl rfl)
theorem dX1_wire_92 : decode cX1_wire 92 = .ok (.aload 6, 2) := dk_25 6 (dk_at dksX1_wire_3 12 rfl rfl)
theorem dX1_wire_94 : decode cX1_wire 94 = .ok (.getfield 200, 3) := dk_180 0 200 (dk_at dksX1_wire_3 14 rfl rfl)
theorem dX1_wire_97 : decode cX1_wire 97 = .ok (.iload 5, 2) := dk_21 5 (dk_at dksX1_wire_3 17 rfl rfl)
theorem dX1_wire_99 : decode cX1_wire 99 = .ok (.iaload, 1) := dk_46 (dk_at dksX1_wire_3 19 rfl rfl)
theorem dX1_wire_100 : decode cX1_wire 100 = .ok (.goto 22, 3) := dk_167 0 22 (dk_at dksX1_wire_3 20 rfl rfl)
theorem dX1_wire_103 : decode cX1_wire 103 = .ok (.aload 6, 2) := dk_25 6 (dk_at dksX1_wire_4 0 rfl rfl)
theorem dX1_wire_105 : decode cX1_wire 105 = .ok (.getfield 203, 3) := dk_180 0 203 (dk_at dksX1_wire_4 2 rfl rfl)
theorem dX1_wire_108 : decode cX1_wire 108 = .ok (.iload 5, 2) := dk_21 5 (dk_at dksX1_wire_4 5 rfl rfl)
theorem dX1_wire_110 : decode cX1_wire 110 = .ok (.iaload, 1) := dk_46 (dk_at dksX1_wire_4 7 rfl rfl)
theorem dX1_wire_111 : decode cX1_wire 111 = .ok (.goto 11, 3) := dk_167 0 11 (dk_at dksX1_wire_4 8 rfl rfl)
theorem dX1_wire_114 : decode cX1_wire 114 = .ok (.new 51, 3) := dk_187 0 51 (dk_at dksX1_wire_4 11 rfl rfl)
theorem dX1_wire_117 : decode cX1_wire 117 = .ok (.dup, 1) := dk_89 (dk_at dksX1_wire_4 14 rfl rfl)
theorem dX1_wire_118 : decode cX1_wire 118 = .ok (.invokespecial 53, 3) := dk_183 0 53 (dk_at dksX1_wire_4 15 rfl rfl)
theorem dX1_wire_121 : decode cX1_wire 121 = .ok (.athrow, 1) := dk_191 (dk_at dksX1_wire_4 18 rfl rfl)
theorem dX1_wire_122 : decode cX1_wire 122 = .ok (.ireturn, 1) := dk_172 (dk_at dksX1_wire_4 19 rfl rfl)
abbrev cX1_checkWire : ByteArray := prog_1_method_12_code
def yX1_checkWire : MethodName := ⟨RX1, "checkWire", "(III)I"⟩
def dkwX1_checkWire_1 : List UInt8 := [184, 0, 79, 27, 28, 29, 184, 0, 83, 172]
abbrev dktX1_checkWire_1 : List UInt8 := dkwX1_checkWire_1 ++ []
def dkwX1_checkWire_0 : List UInt8 := [42, 182, 0, 72, 58, 4, 27, 25, 4, 180, 0, 76, 4, 100, 184, 0, 79, 28, 6, 184, 0, 79, 29, 6]
abbrev dktX1_checkWire_0 : List UInt8 := dkwX1_checkWire_0 ++ dktX1_checkWire_1
theorem dksX1_checkWire_0 : cX1_checkWire.data.toList.drop 0 = dktX1_checkWire_0 := by decide +kernel
theorem dksX1_checkWire_1 : cX1_checkWire.data.toList.drop 24 = dktX1_checkWire_1 := dk_seg dksX1_checkWire_0 24 rfl rfl
theorem dX1_checkWire_0 : decode cX1_checkWire 0 = .ok (.aload_n 0, 1) := dk_42 (dk_at dksX1_checkWire_0 0 rfl rfl)
theorem dX1_checkWire_1 : decode cX1_checkWire 1 = .ok (.invokevirtual 72, 3) := dk_182 0 72 (dk_at dksX1_checkWire_0 1 rfl rfl)
theorem dX1_checkWire_4 : decode cX1_checkWire 4 = .ok (.astore 4, 2) := dk_58 4 (dk_at dksX1_checkWire_0 4 rfl rfl)
theorem dX1_checkWire_6 : decode cX1_checkWire 6 = .ok (.iload_n 1, 1) := dk_27 (dk_at dksX1_checkWire_0 6 rfl rfl)
theorem dX1_checkWire_7 : decode cX1_checkWire 7 = .ok (.aload 4, 2) := dk_25 4 (dk_at dksX1_checkWire_0 7 rfl rfl)
theorem dX1_checkWire_9 : decode cX1_checkWire 9 = .ok (.getfield 76, 3) := dk_180 0 76 (dk_at dksX1_checkWire_0 9 rfl rfl)
theorem dX1_checkWire_12 : decode cX1_checkWire 12 = .ok (.iconst 1, 1) := dk_4 (dk_at dksX1_checkWire_0 12 rfl rfl)
theorem dX1_checkWire_13 : decode cX1_checkWire 13 = .ok (.isub, 1) := dk_100 (dk_at dksX1_checkWire_0 13 rfl rfl)
theorem dX1_checkWire_14 : decode cX1_checkWire 14 = .ok (.invokestatic 79, 3) := dk_184 0 79 (dk_at dksX1_checkWire_0 14 rfl rfl)
theorem dX1_checkWire_17 : decode cX1_checkWire 17 = .ok (.iload_n 2, 1) := dk_28 (dk_at dksX1_checkWire_0 17 rfl rfl)
theorem dX1_checkWire_18 : decode cX1_checkWire 18 = .ok (.iconst 3, 1) := dk_6 (dk_at dksX1_checkWire_0 18 rfl rfl)
theorem dX1_checkWire_19 : decode cX1_checkWire 19 = .ok (.invokestatic 79, 3) := dk_184 0 79 (dk_at dksX1_checkWire_0 19 rfl rfl)
theorem dX1_checkWire_22 : decode cX1_checkWire 22 = .ok (.iload_n 3, 1) := dk_29 (dk_at dksX1_checkWire_0 22 rfl rfl)
theorem dX1_checkWire_23 : decode cX1_checkWire 23 = .ok (.iconst 3, 1) := dk_6 (dk_at dksX1_checkWire_0 23 rfl rfl)
theorem dX1_checkWire_24 : decode cX1_checkWire 24 = .ok (.invokestatic 79, 3) := dk_184 0 79 (dk_at dksX1_checkWire_1 0 rfl rfl)
theorem dX1_checkWire_27 : decode cX1_checkWire 27 = .ok (.iload_n 1, 1) := dk_27 (dk_at dksX1_checkWire_1 3 rfl rfl)
theorem dX1_checkWire_28 : decode cX1_checkWire 28 = .ok (.iload_n 2, 1) := dk_28 (dk_at dksX1_checkWire_1 4 rfl rfl)
theorem dX1_checkWire_29 : decode cX1_checkWire 29 = .ok (.iload_n 3, 1) := dk_29 (dk_at dksX1_checkWire_1 5 rfl rfl)
theorem dX1_checkWire_30 : decode cX1_checkWire 30 = .ok (.invokestatic 83, 3) := dk_184 0 83 (dk_at dksX1_checkWire_1 6 rfl rfl)
theorem dX1_checkWire_33 : decode cX1_checkWire 33 = .ok (.ireturn, 1) := dk_172 (dk_at dksX1_checkWire_1 9 rfl rfl)
abbrev cX1_garbles : ByteArray := prog_1_method_28_code
def yX1_garbles : MethodName := ⟨RX1, "garbles", "(IIIII)Z"⟩
def dkwX1_garbles_2 : List UInt8 := [180, 0, 87, 21, 6, 21, 4, 21, 5, 182, 0, 208, 172]
abbrev dktX1_garbles_2 : List UInt8 := dkwX1_garbles_2 ++ []
def dkwX1_garbles_1 : List UInt8 := [133, 9, 20, 0, 156, 184, 0, 54, 153, 0, 7, 4, 167, 0, 4, 3, 184, 0, 116, 42, 180, 0, 64]
abbrev dktX1_garbles_1 : List UInt8 := dkwX1_garbles_1 ++ dktX1_garbles_2
def dkwX1_garbles_0 : List UInt8 := [42, 27, 28, 29, 182, 0, 183, 54, 6, 21, 4, 133, 9, 20, 0, 206, 184, 0, 54, 153, 0, 20, 21, 5]
abbrev dktX1_garbles_0 : List UInt8 := dkwX1_garbles_0 ++ dktX1_garbles_1
theorem dksX1_garbles_0 : cX1_garbles.data.toList.drop 0 = dktX1_garbles_0 := by decide +kernel
theorem dksX1_garbles_1 : cX1_garbles.data.toList.drop 24 = dktX1_garbles_1 := dk_seg dksX1_garbles_0 24 rfl rfl
theorem dksX1_garbles_2 : cX1_garbles.data.toList.drop 47 = dktX1_garbles_2 := dk_seg dksX1_garbles_1 23 rfl rfl
theorem dX1_garbles_0 : decode cX1_garbles 0 = .ok (.aload_n 0, 1) := dk_42 (dk_at dksX1_garbles_0 0 rfl rfl)
theorem dX1_garbles_1 : decode cX1_garbles 1 = .ok (.iload_n 1, 1) := dk_27 (dk_at dksX1_garbles_0 1 rfl rfl)
theorem dX1_garbles_2 : decode cX1_garbles 2 = .ok (.iload_n 2, 1) := dk_28 (dk_at dksX1_garbles_0 2 rfl rfl)
theorem dX1_garbles_3 : decode cX1_garbles 3 = .ok (.iload_n 3, 1) := dk_29 (dk_at dksX1_garbles_0 3 rfl rfl)
theorem dX1_garbles_4 : decode cX1_garbles 4 = .ok (.invokevirtual 183, 3) := dk_182 0 183 (dk_at dksX1_garbles_0 4 rfl rfl)
theorem dX1_garbles_7 : decode cX1_garbles 7 = .ok (.istore 6, 2) := dk_54 6 (dk_at dksX1_garbles_0 7 rfl rfl)
theorem dX1_garbles_9 : decode cX1_garbles 9 = .ok (.iload 4, 2) := dk_21 4 (dk_at dksX1_garbles_0 9 rfl rfl)
theorem dX1_garbles_11 : decode cX1_garbles 11 = .ok (.i2l, 1) := dk_133 (dk_at dksX1_garbles_0 11 rfl rfl)
theorem dX1_garbles_12 : decode cX1_garbles 12 = .ok (.lconst 0, 1) := dk_9 (dk_at dksX1_garbles_0 12 rfl rfl)
theorem dX1_garbles_13 : decode cX1_garbles 13 = .ok (.ldc2_w 206, 3) := dk_20 0 206 (dk_at dksX1_garbles_0 13 rfl rfl)
theorem dX1_garbles_16 : decode cX1_garbles 16 = .ok (.invokestatic 54, 3) := dk_184 0 54 (dk_at dksX1_garbles_0 16 rfl rfl)
theorem dX1_garbles_19 : decode cX1_garbles 19 = .ok (.ifCond .eq 20, 3) := dk_153 0 20 (dk_at dksX1_garbles_0 19 rfl rfl)
theorem dX1_garbles_22 : decode cX1_garbles 22 = .ok (.iload 5, 2) := dk_21 5 (dk_at dksX1_garbles_0 22 rfl rfl)
theorem dX1_garbles_24 : decode cX1_garbles 24 = .ok (.i2l, 1) := dk_133 (dk_at dksX1_garbles_1 0 rfl rfl)
theorem dX1_garbles_25 : decode cX1_garbles 25 = .ok (.lconst 0, 1) := dk_9 (dk_at dksX1_garbles_1 1 rfl rfl)
theorem dX1_garbles_26 : decode cX1_garbles 26 = .ok (.ldc2_w 156, 3) := dk_20 0 156 (dk_at dksX1_garbles_1 2 rfl rfl)
theorem dX1_garbles_29 : decode cX1_garbles 29 = .ok (.invokestatic 54, 3) := dk_184 0 54 (dk_at dksX1_garbles_1 5 rfl rfl)
theorem dX1_garbles_32 : decode cX1_garbles 32 = .ok (.ifCond .eq 7, 3) := dk_153 0 7 (dk_at dksX1_garbles_1 8 rfl rfl)
theorem dX1_garbles_35 : decode cX1_garbles 35 = .ok (.iconst 1, 1) := dk_4 (dk_at dksX1_garbles_1 11 rfl rfl)
theorem dX1_garbles_36 : decode cX1_garbles 36 = .ok (.goto 4, 3) := dk_167 0 4 (dk_at dksX1_garbles_1 12 rfl rfl)
theorem dX1_garbles_39 : decode cX1_garbles 39 = .ok (.iconst 0, 1) := dk_3 (dk_at dksX1_garbles_1 15 rfl rfl)
theorem dX1_garbles_40 : decode cX1_garbles 40 = .ok (.invokestatic 116, 3) := dk_184 0 116 (dk_at dksX1_garbles_1 16 rfl rfl)
theorem dX1_garbles_43 : decode cX1_garbles 43 = .ok (.aload_n 0, 1) := dk_42 (dk_at dksX1_garbles_1 19 rfl rfl)
theorem dX1_garbles_44 : decode cX1_garbles 44 = .ok (.getfield 64, 3) := dk_180 0 64 (dk_at dksX1_garbles_1 20 rfl rfl)
theorem dX1_garbles_47 : decode cX1_garbles 47 = .ok (.getfield 87, 3) := dk_180 0 87 (dk_at dksX1_garbles_2 0 rfl rfl)
theorem dX1_garbles_50 : decode cX1_garbles 50 = .ok (.iload 6, 2) := dk_21 6 (dk_at dksX1_garbles_2 3 rfl rfl)
theorem dX1_garbles_52 : decode cX1_garbles 52 = .ok (.iload 4, 2) := dk_21 4 (dk_at dksX1_garbles_2 5 rfl rfl)
theorem dX1_garbles_54 : decode cX1_garbles 54 = .ok (.iload 5, 2) := dk_21 5 (dk_at dksX1_garbles_2 7 rfl rfl)
theorem dX1_garbles_56 : decode cX1_garbles 56 = .ok (.invokevirtual 208, 3) := dk_182 0 208 (dk_at dksX1_garbles_2 9 rfl rfl)
theorem dX1_garbles_59 : decode cX1_garbles 59 = .ok (.ireturn, 1) := dk_172 (dk_at dksX1_garbles_2 12 rfl rfl)
abbrev cX1_comes : ByteArray := prog_1_method_29_code
def yX1_comes : MethodName := ⟨RX1, "comes", "(IIIII)I"⟩
def dkwX1_comes_2 : List UInt8 := [180, 0, 87, 21, 6, 42, 180, 0, 64, 180, 0, 161, 21, 4, 21, 5, 182, 0, 212, 172]
abbrev dktX1_comes_2 : List UInt8 := dkwX1_comes_2 ++ []
def dkwX1_comes_1 : List UInt8 := [133, 9, 20, 0, 114, 184, 0, 54, 153, 0, 7, 4, 167, 0, 4, 3, 184, 0, 116, 42, 180, 0, 64]
abbrev dktX1_comes_1 : List UInt8 := dkwX1_comes_1 ++ dktX1_comes_2
def dkwX1_comes_0 : List UInt8 := [42, 27, 28, 29, 182, 0, 183, 54, 6, 21, 4, 133, 9, 20, 0, 156, 184, 0, 54, 153, 0, 20, 21, 5]
abbrev dktX1_comes_0 : List UInt8 := dkwX1_comes_0 ++ dktX1_comes_1
theorem dksX1_comes_0 : cX1_comes.data.toList.drop 0 = dktX1_comes_0 := by decide +kernel
theorem dksX1_comes_1 : cX1_comes.data.toList.drop 24 = dktX1_comes_1 := dk_seg dksX1_comes_0 24 rfl rfl
theorem dksX1_comes_2 : cX1_comes.data.toList.drop 47 = dktX1_comes_2 := dk_seg dksX1_comes_1 23 rfl rfl
theorem dX1_comes_0 : decode cX1_comes 0 = .ok (.aload_n 0, 1) := dk_42 (dk_at dksX1_comes_0 0 rfl rfl)
theorem dX1_comes_1 : decode cX1_comes 1 = .ok (.iload_n 1, 1) := dk_27 (dk_at dksX1_comes_0 1 rfl rfl)
theorem dX1_comes_2 : decode cX1_comes 2 = .ok (.iload_n 2, 1) := dk_28 (dk_at dksX1_comes_0 2 rfl rfl)
theorem dX1_comes_3 : decode cX1_comes 3 = .ok (.iload_n 3, 1) := dk_29 (dk_at dksX1_comes_0 3 rfl rfl)
theorem dX1_comes_4 : decode cX1_comes 4 = .ok (.invokevirtual 183, 3) := dk_182 0 183 (dk_at dksX1_comes_0 4 rfl rfl)
theorem dX1_comes_7 : decode cX1_comes 7 = .ok (.istore 6, 2) := dk_54 6 (dk_at dksX1_comes_0 7 rfl rfl)
theorem dX1_comes_9 : decode cX1_comes 9 = .ok (.iload 4, 2) := dk_21 4 (dk_at dksX1_comes_0 9 rfl rfl)
theorem dX1_comes_11 : decode cX1_comes 11 = .ok (.i2l, 1) := dk_133 (dk_at dksX1_comes_0 11 rfl rfl)
theorem dX1_comes_12 : decode cX1_comes 12 = .ok (.lconst 0, 1) := dk_9 (dk_at dksX1_comes_0 12 rfl rfl)
theorem dX1_comes_13 : decode cX1_comes 13 = .ok (.ldc2_w 156, 3) := dk_20 0 156 (dk_at dksX1_comes_0 13 rfl rfl)
theorem dX1_comes_16 : decode cX1_comes 16 = .ok (.invokestatic 54, 3) := dk_184 0 54 (dk_at dksX1_comes_0 16 rfl rfl)
theorem dX1_comes_19 : decode cX1_comes 19 = .ok (.ifCond .eq 20, 3) := dk_153 0 20 (dk_at dksX1_comes_0 19 rfl rfl)
theorem dX1_comes_22 : decode cX1_comes 22 = .ok (.iload 5, 2) := dk_21 5 (dk_at dksX1_comes_0 22 rfl rfl)
theorem dX1_comes_24 : decode cX1_comes 24 = .ok (.i2l, 1) := dk_133 (dk_at dksX1_comes_1 0 rfl rfl)
theorem dX1_comes_25 : decode cX1_comes 25 = .ok (.lconst 0, 1) := dk_9 (dk_at dksX1_comes_1 1 rfl rfl)
theorem dX1_comes_26 : decode cX1_comes 26 = .ok (.ldc2_w 114, 3) := dk_20 0 114 (dk_at dksX1_comes_1 2 rfl rfl)
theorem dX1_comes_29 : decode cX1_comes 29 = .ok (.invokestatic 54, 3) := dk_184 0 54 (dk_at dksX1_comes_1 5 rfl rfl)
theorem dX1_comes_32 : decode cX1_comes 32 = .ok (.ifCond .eq 7, 3) := dk_153 0 7 (dk_at dksX1_comes_1 8 rfl rfl)
theorem dX1_comes_35 : decode cX1_comes 35 = .ok (.iconst 1, 1) := dk_4 (dk_at dksX1_comes_1 11 rfl rfl)
theorem dX1_comes_36 : decode cX1_comes 36 = .ok (.goto 4, 3) := dk_167 0 4 (dk_at dksX1_comes_1 12 rfl rfl)
theorem dX1_comes_39 : decode cX1_comes 39 = .ok (.iconst 0, 1) := dk_3 (dk_at dksX1_comes_1 15 rfl rfl)
theorem dX1_comes_40 : decode cX1_comes 40 = .ok (.invokestatic 116, 3) := dk_184 0 116 (dk_at dksX1_comes_1 16 rfl rfl)
theorem dX1_comes_43 : decode cX1_comes 43 = .ok (.aload_n 0, 1) := dk_42 (dk_at dksX1_comes_1 19 rfl rfl)
theorem dX1_comes_44 : decode cX1_comes 44 = .ok (.getfield 64, 3) := dk_180 0 64 (dk_at dksX1_comes_1 20 rfl rfl)
theorem dX1_comes_47 : decode cX1_comes 47 = .ok (.getfield 87, 3) := dk_180 0 87 (dk_at dksX1_comes_2 0 rfl rfl)
theorem dX1_comes_50 : decode cX1_comes 50 = .ok (.iload 6, 2) := dk_21 6 (dk_at dksX1_comes_2 3 rfl rfl)
theorem dX1_comes_52 : decode cX1_comes 52 = .ok (.aload_n 0, 1) := dk_42 (dk_at dksX1_comes_2 5 rfl rfl)
theorem dX1_comes_53 : decode cX1_comes 53 = .ok (.getfield 64, 3) := dk_180 0 64 (dk_at dksX1_comes_2 6 rfl rfl)
theorem dX1_comes_56 : decode cX1_comes 56 = .ok (.getfield 161, 3) := dk_180 0 161 (dk_at dksX1_comes_2 9 rfl rfl)
theorem dX1_comes_59 : decode cX1_comes 59 = .ok (.iload 4, 2) := dk_21 4 (dk_at dksX1_comes_2 12 rfl rfl)
theorem dX1_comes_61 : decode cX1_comes 61 = .ok (.iload 5, 2) := dk_21 5 (dk_at dksX1_comes_2 14 rfl rfl)
theorem dX1_comes_63 : decode cX1_comes 63 = .ok (.invokevirtual 212, 3) := dk_182 0 212 (dk_at dksX1_comes_2 16 rfl rfl)
theorem dX1_comes_66 : decode cX1_comes 66 = .ok (.ireturn, 1) := dk_172 (dk_at dksX1_comes_2 19 rfl rfl)
abbrev cX1_worstWire : ByteArray := prog_1_method_30_code
def yX1_worstWire : MethodName := ⟨RX1, "worstWire", "()I"⟩
def dkwX1_worstWire_0 : List UInt8 := [42, 182, 0, 72, 180, 0, 87, 182, 0, 216, 172]
abbrev dktX1_worstWire_0 : List UInt8 := dkwX1_worstWire_0 ++ []
theorem dksX1_worstWire_0 : cX1_worstWire.data.toList.drop 0 = dktX1_worstWire_0 := by decide +kernel
theorem dX1_worstWire_0 : decode cX1_worstWire 0 = .ok (.aload_n 0, 1) := dk_42 (dk_at dksX1_worstWire_0 0 rfl rfl)
theorem dX1_worstWire_1 : decode cX1_worstWire 1 = .ok (.invokevirtual 72, 3) := dk_182 0 72 (dk_at dksX1_worstWire_0 1 rfl rfl)
theorem dX1_worstWire_4 : decode cX1_worstWire 4 = .ok (.getfield 87, 3) := dk_180 0 87 (dk_at dksX1_worstWire_0 4 rfl rfl)
theorem dX1_worstWire_7 : decode cX1_worstWire 7 = .ok (.invokevirtual 216, 3) := dk_182 0 216 (dk_at dksX1_worstWire_0 7 rfl rfl)
theorem dX1_worstWire_10 : decode cX1_worstWire 10 = .ok (.ireturn, 1) := dk_172 (dk_at dksX1_worstWire_0 10 rfl rfl)
abbrev cX1_stormyWires : ByteArray := prog_1_method_31_code
def yX1_stormyWires : MethodName := ⟨RX1, "stormyWires", "(II)I"⟩
def dkwX1_stormyWires_1 : List UInt8 := [184, 0, 54, 153, 0, 7, 4, 167, 0, 4, 3, 184, 0, 116, 45, 180, 0, 87, 27, 28, 182, 0, 219, 172]
abbrev dktX1_stormyWires_1 : List UInt8 := dkwX1_stormyWires_1 ++ []
def dkwX1_stormyWires_0 : List UInt8 := [42, 182, 0, 72, 78, 27, 133, 9, 20, 0, 206, 184, 0, 54, 153, 0, 19, 28, 133, 9, 20, 0, 156]
abbrev dktX1_stormyWires_0 : List UInt8 := dkwX1_stormyWires_0 ++ dktX1_stormyWires_1
theorem dksX1_stormyWires_0 : cX1_stormyWires.data.toList.drop 0 = dktX1_stormyWires_0 := by decide +kernel
theorem dksX1_stormyWires_1 : cX1_stormyWires.data.toList.drop 23 = dktX1_stormyWires_1 := dk_seg dksX1_stormyWires_0 23 rfl rfl
theorem dX1_stormyWires_0 : decode cX1_stormyWires 0 = .ok (.aload_n 0, 1) := dk_42 (dk_at dksX1_stormyWires_0 0 rfl rfl)
theorem dX1_stormyWires_1 : decode cX1_stormyWires 1 = .ok (.invokevirtual 72, 3) := dk_182 0 72 (dk_at dksX1_stormyWires_0 1 rfl rfl)
theorem dX1_stormyWires_4 : decode cX1_stormyWires 4 = .ok (.astore_n 3, 1) := dk_78 (dk_at dksX1_stormyWires_0 4 rfl rfl)
theorem dX1_stormyWires_5 : decode cX1_stormyWires 5 = .ok (.iload_n 1, 1) := dk_27 (dk_at dksX1_stormyWires_0 5 rfl rfl)
theorem dX1_stormyWires_6 : decode cX1_stormyWires 6 = .ok (.i2l, 1) := dk_133 (dk_at dksX1_stormyWires_0 6 rfl rfl)
theorem dX1_stormyWires_7 : decode cX1_stormyWires 7 = .ok (.lconst 0, 1) := dk_9 (dk_at dksX1_stormyWires_0 7 rfl rfl)
theorem dX1_stormyWires_8 : decode cX1_stormyWires 8 = .ok (.ldc2_w 206, 3) := dk_20 0 206 (dk_at dksX1_stormyWires_0 8 rfl rfl)
theorem dX1_stormyWires_11 : decode cX1_stormyWires 11 = .ok (.invokestatic 54, 3) := dk_184 0 54 (dk_at dksX1_stormyWires_0 11 rfl rfl)
theorem dX1_stormyWires_14 : decode cX1_stormyWires 14 = .ok (.ifCond .eq 19, 3) := dk_153 0 19 (dk_at dksX1_stormyWires_0 14 rfl rfl)
theorem dX1_stormyWires_17 : decode cX1_stormyWires 17 = .ok (.iload_n 2, 1) := dk_28 (dk_at dksX1_stormyWires_0 17 rfl rfl)
theorem dX1_stormyWires_18 : decode cX1_stormyWires 18 = .ok (.i2l, 1) := dk_133 (dk_at dksX1_stormyWires_0 18 rfl rfl)
theorem dX1_stormyWires_19 : decode cX1_stormyWires 19 = .ok (.lconst 0, 1) := dk_9 (dk_at dksX1_stormyWires_0 19 rfl rfl)
theorem dX1_stormyWires_20 : decode cX1_stormyWires 20 = .ok (.ldc2_w 156, 3) := dk_20 0 156 (dk_at dksX1_stormyWires_0 20 rfl rfl)
theorem dX1_stormyWires_23 : decode cX1_stormyWires 23 = .ok (.invokestatic 54, 3) := dk_184 0 54 (dk_at dksX1_stormyWires_1 0 rfl rfl)
theorem dX1_stormyWires_26 : decode cX1_stormyWires 26 = .ok (.ifCond .eq 7, 3) := dk_153 0 7 (dk_at dksX1_stormyWires_1 3 rfl rfl)
theorem dX1_stormyWires_29 : decode cX1_stormyWires 29 = .ok (.iconst 1, 1) := dk_4 (dk_at dksX1_stormyWires_1 6 rfl rfl)
theorem dX1_stormyWires_30 : decode cX1_stormyWires 30 = .ok (.goto 4, 3) := dk_167 0 4 (dk_at dksX1_stormyWires_1 7 rfl rfl)
theorem dX1_stormyWires_33 : decode cX1_stormyWires 33 = .ok (.iconst 0, 1) := dk_3 (dk_at dksX1_stormyWires_1 10 rfl rfl)
theorem dX1_stormyWires_34 : decode cX1_stormyWires 34 = .ok (.invokestatic 116, 3) := dk_184 0 116 (dk_at dksX1_stormyWires_1 11 rfl rfl)
theorem dX1_stormyWires_37 : decode cX1_stormyWires 37 = .ok (.aload_n 3, 1) := dk_45 (dk_at dksX1_stormyWires_1 14 rfl rfl)
theorem dX1_stormyWires_38 : decode cX1_stormyWires 38 = .ok (.getfield 87, 3) := dk_180 0 87 (dk_at dksX1_stormyWires_1 15 rfl rfl)
theorem dX1_stormyWires_41 : decode cX1_stormyWires 41 = .ok (.iload_n 1, 1) := dk_27 (dk_at dksX1_stormyWires_1 18 rfl rfl)
theorem dX1_stormyWires_42 : decode cX1_stormyWires 42 = .ok (.iload_n 2, 1) := dk_28 (dk_at dksX1_stormyWires_1 19 rfl rfl)
theorem dX1_stormyWires_43 : decode cX1_stormyWires 43 = .ok (.invokevirtual 219, 3) := dk_182 0 219 (dk_at dksX1_stormyWires_1 20 rfl rfl)
theorem dX1_stormyWires_46 : decode cX1_stormyWires 46 = .ok (.ireturn, 1) := dk_172 (dk_at dksX1_stormyWires_1 23 rfl rfl)
abbrev cX1_calmest : ByteArray := prog_1_method_32_code
def yX1_calmest : MethodName := ⟨RX1, "calmest", "(I)I"⟩
def dkwX1_calmest_3 : List UInt8 := [161, 0, 6, 167, 0, 10, 21, 5, 62, 21, 6, 54, 4, 132, 5, 1, 167, 255, 214, 29, 172]
abbrev dktX1_calmest_3 : List UInt8 := dkwX1_calmest_3 ++ []
def dkwX1_calmest_2 : List UInt8 := [180, 0, 161, 27, 96, 162, 0, 37, 44, 180, 0, 87, 21, 5, 182, 0, 225, 54, 6, 21, 6, 21, 4]
abbrev dktX1_calmest_2 : List UInt8 := dkwX1_calmest_2 ++ dktX1_calmest_3
def dkwX1_calmest_1 : List UInt8 := [180, 0, 87, 44, 180, 0, 161, 182, 0, 225, 54, 4, 44, 180, 0, 161, 4, 96, 54, 5, 21, 5, 44]
abbrev dktX1_calmest_1 : List UInt8 := dkwX1_calmest_1 ++ dktX1_calmest_2
def dkwX1_calmest_0 : List UInt8 := [42, 182, 0, 72, 77, 27, 133, 10, 20, 0, 223, 184, 0, 54, 184, 0, 116, 44, 180, 0, 161, 62, 44]
abbrev dktX1_calmest_0 : List UInt8 := dkwX1_calmest_0 ++ dktX1_calmest_1
theorem dksX1_calmest_0 : cX1_calmest.data.toList.drop 0 = dktX1_calmest_0 := by decide +kernel
theorem dksX1_calmest_1 : cX1_calmest.data.toList.drop 23 = dktX1_calmest_1 := dk_seg dksX1_calmest_0 23 rfl rfl
theorem dksX1_calmest_2 : cX1_calmest.data.toList.drop 46 = dktX1_calmest_2 := dk_seg dksX1_calmest_1 23 rfl rfl
theorem dksX1_calmest_3 : cX1_calmest.data.toList.drop 69 = dktX1_calmest_3 := dk_seg dksX1_calmest_2 23 rfl rfl
theorem dX1_calmest_0 : decode cX1_calmest 0 = .ok (.aload_n 0, 1) := dk_42 (dk_at dksX1_calmest_0 0 rfl rfl)
theorem dX1_calmest_1 : decode cX1_calmest 1 = .ok (.invokevirtual 72, 3) := dk_182 0 72 (dk_at dksX1_calmest_0 1 rfl rfl)
theorem dX1_calmest_4 : decode cX1_calmest 4 = .ok (.astore_n 2, 1) := dk_77 (dk_at dksX1_calmest_0 4 rfl rfl)
theorem dX1_calmest_5 : decode cX1_calmest 5 = .ok (.iload_n 1, 1) := dk_27 (dk_at dksX1_calmest_0 5 rfl rfl)
theorem dX1_calmest_6 : decode cX1_calmest 6 = .ok (.i2l, 1) := dk_133 (dk_at dksX1_calmest_0 6 rfl rfl)
theorem dX1_calmest_7 : decode cX1_calmest 7 = .ok (.lconst 1, 1) := dk_10 (dk_at dksX1_calmest_0 7 rfl rfl)
theorem dX1_calmest_8 : decode cX1_calmest 8 = .ok (.ldc2_w 223, 3) := dk_20 0 223 (dk_at dksX1_calmest_0 8 rfl rfl)
theorem dX1_calmest_11 : decode cX1_calmest 11 = .ok (.invokestatic 54, 3) := dk_184 0 54 (dk_at dksX1_calmest_0 11 rfl rfl)
theorem dX1_calmest_14 : decode cX1_calmest 14 = .ok (.invokestatic 116, 3) := dk_184 0 116 (dk_at dksX1_calmest_0 14 rfl rfl)
theorem dX1_calmest_17 : decode cX1_calmest 17 = .ok (.aload_n 2, 1) := dk_44 (dk_at dksX1_calmest_0 17 rfl rfl)
theorem dX1_calmest_18 : decode cX1_calmest 18 = .ok (.getfield 161, 3) := dk_180 0 161 (dk_at dksX1_calmest_0 18 rfl rfl)
theorem dX1_calmest_21 : decode cX1_calmest 21 = .ok (.istore_n 3, 1) := dk_62 (dk_at dksX1_calmest_0 21 rfl rfl)
theorem dX1_calmest_22 : decode cX1_calmest 22 = .ok (.aload_n 2, 1) := dk_44 (dk_at dksX1_calmest_0 22 rfl rfl)
theorem dX1_calmest_23 : decode cX1_calmest 23 = .ok (.getfield 87, 3) := dk_180 0 87 (dk_at dksX1_calmest_1 0 rfl rfl)
theorem dX1_calmest_26 : decode cX1_calmest 26 = .ok (.aload_n 2, 1) := dk_44 (dk_at dksX1_calmest_1 3 rfl rfl)
theorem dX1_calmest_27 : decode cX1_calmest 27 = .ok (.getfield 161, 3) := dk_180 0 161 (dk_at dksX1_calmest_1 4 rfl rfl)
theorem dX1_calmest_30 : decode cX1_calmest 30 = .ok (.invokevirtual 225, 3) := dk_182 0 225 (dk_at dksX1_calmest_1 7 rfl rfl)
theorem dX1_calmest_33 : decode cX1_calmest 33 = .ok (.istore 4, 2) := dk_54 4 (dk_at dksX1_calmest_1 10 rfl rfl)
theorem dX1_calmest_35 : decode cX1_calmest 35 = .ok (.aload_n 2, 1) := dk_44 (dk_at dksX1_calmest_1 12 rfl rfl)
theorem dX1_calmest_36 : decode cX1_calmest 36 = .ok (.getfield 161, 3) := dk_180 0 161 (dk_at dksX1_calmest_1 13 rfl rfl)
theorem dX1_calmest_39 : decode cX1_calmest 39 = .ok (.iconst 1, 1) := dk_4 (dk_at dksX1_calmest_1 16 rfl rfl)
theorem dX1_calmest_40 : decode cX1_calmest 40 = .ok (.iadd, 1) := dk_96 (dk_at dksX1_calmest_1 17 rfl rfl)
theorem dX1_calmest_41 : decode cX1_calmest 41 = .ok (.istore 5, 2) := dk_54 5 (dk_at dksX1_calmest_1 18 rfl rfl)
theorem dX1_calmest_43 : decode cX1_calmest 43 = .ok (.iload 5, 2) := dk_21 5 (dk_at dksX1_calmest_1 20 rfl rfl)
theorem dX1_calmest_45 : decode cX1_calmest 45 = .ok (.aload_n 2, 1) := dk_44 (dk_at dksX1_calmest_1 22 rfl rfl)
theorem dX1_calmest_46 : decode cX1_calmest 46 = .ok (.getfield 161, 3) := dk_180 0 161 (dk_at dksX1_calmest_2 0 rfl rfl)
theorem dX1_calmest_49 : decode cX1_calmest 49 = .ok (.iload_n 1, 1) := dk_27 (dk_at dksX1_calmest_2 3 rfl rfl)
theorem dX1_calmest_50 : decode cX1_calmest 50 = .ok (.iadd, 1) := dk_96 (dk_at dksX1_calmest_2 4 rfl rfl)
theorem dX1_calmest_51 : decode cX1_calmest 51 = .ok (.if_icmp .ge 37, 3) := dk_162 0 37 (dk_at dksX1_calmest_2 5 rfl rfl)
theorem dX1_calmest_54 : decode cX1_calmest 54 = .ok (.aload_n 2, 1) := dk_44 (dk_at dksX1_calmest_2 8 rfl rfl)
theorem dX1_calmest_55 : decode cX1_calmest 55 = .ok (.getfield 87, 3) := dk_180 0 87 (dk_at dksX1_calmest_2 9 rfl rfl)
theorem dX1_calmest_58 : decode cX1_calmest 58 = .ok (.iload 5, 2) := dk_21 5 (dk_at dksX1_calmest_2 12 rfl rfl)
theorem dX1_calmest_60 : decode cX1_calmest 60 = .ok (.invokevirtual 225, 3) := dk_182 0 225 (dk_at dksX1_calmest_2 14 rfl rfl)
theorem dX1_calmest_63 : decode cX1_calmest 63 = .ok (.istore 6, 2) := dk_54 6 (dk_at dksX1_calmest_2 17 rfl rfl)
theorem dX1_calmest_65 : decode cX1_calmest 65 = .ok (.iload 6, 2) := dk_21 6 (dk_at dksX1_calmest_2 19 rfl rfl)
theorem dX1_calmest_67 : decode cX1_calmest 67 = .ok (.iload 4, 2) := dk_21 4 (dk_at dksX1_calmest_2 21 rfl rfl)
theorem dX1_calmest_69 : decode cX1_calmest 69 = .ok (.if_icmp .lt 6, 3) := dk_161 0 6 (dk_at dksX1_calmest_3 0 rfl rfl)
theorem dX1_calmest_72 : decode cX1_calmest 72 = .ok (.goto 10, 3) := dk_167 0 10 (dk_at dksX1_calmest_3 3 rfl rfl)
theorem dX1_calmest_75 : decode cX1_calmest 75 = .ok (.iload 5, 2) := dk_21 5 (dk_at dksX1_calmest_3 6 rfl rfl)
theorem dX1_calmest_77 : decode cX1_calmest 77 = .ok (.istore_n 3, 1) := dk_62 (dk_at dksX1_calmest_3 8 rfl rfl)
theorem dX1_calmest_78 : decode cX1_calmest 78 = .ok (.iload 6, 2) := dk_21 6 (dk_at dksX1_calmest_3 9 rfl rfl)
theorem dX1_calmest_80 : decode cX1_calmest 80 = .ok (.istore 4, 2) := dk_54 4 (dk_at dksX1_calmest_3 11 rfl rfl)
theorem dX1_calmest_82 : decode cX1_calmest 82 = .ok (.iinc 5 1, 3) := dk_132 5 1 (dk_at dksX1_calmest_3 13 rfl rfl)
theorem dX1_calmest_85 : decode cX1_calmest 85 = .ok (.goto (-42), 3) := dk_167 255 214 (dk_at dksX1_calmest_3 16 rfl rfl)
theorem dX1_calmest_88 : decode cX1_calmest 88 = .ok (.iload_n 3, 1) := dk_29 (dk_at dksX1_calmest_3 19 rfl rfl)
theorem dX1_calmest_89 : decode cX1_calmest 89 = .ok (.ireturn, 1) := dk_172 (dk_at dksX1_calmest_3 20 rfl rfl)
abbrev cX1_stormyHours : ByteArray := prog_1_method_33_code
def yX1_stormyHours : MethodName := ⟨RX1, "stormyHours", "(IIII)I"⟩
def dkwX1_stormyHours_4 : List UInt8 := [21, 8, 184, 0, 197, 96, 54, 6, 132, 7, 1, 167, 255, 188, 21, 6, 172]
abbrev dktX1_stormyHours_4 : List UInt8 := dkwX1_stormyHours_4 ++ []
def dkwX1_stormyHours_3 : List UInt8 := [180, 0, 87, 21, 5, 21, 7, 21, 9, 182, 0, 208, 128, 54, 8, 132, 9, 1, 167, 255, 225, 21, 6]
abbrev dktX1_stormyHours_3 : List UInt8 := dkwX1_stormyHours_3 ++ dktX1_stormyHours_4
def dkwX1_stormyHours_2 : List UInt8 := [162, 0, 59, 3, 54, 8, 3, 54, 9, 21, 9, 16, 12, 162, 0, 30, 21, 8, 42, 180, 0, 64]
abbrev dktX1_stormyHours_2 : List UInt8 := dkwX1_stormyHours_2 ++ dktX1_stormyHours_3
def dkwX1_stormyHours_1 : List UInt8 := [184, 0, 116, 42, 180, 0, 64, 180, 0, 161, 54, 7, 21, 7, 42, 180, 0, 64, 180, 0, 161, 21, 4, 96]
abbrev dktX1_stormyHours_1 : List UInt8 := dkwX1_stormyHours_1 ++ dktX1_stormyHours_2
def dkwX1_stormyHours_0 : List UInt8 := [42, 27, 28, 29, 182, 0, 183, 54, 5, 3, 54, 6, 21, 4, 133, 10, 20, 0, 223, 184, 0, 54]
abbrev dktX1_stormyHours_0 : List UInt8 := dkwX1_stormyHours_0 ++ dktX1_stormyHours_1
theorem dksX1_stormyHours_0 : cX1_stormyHours.data.toList.drop 0 = dktX1_stormyHours_0 := by decide +kernel
theorem dksX1_stormyHours_1 : cX1_stormyHours.data.toList.drop 22 = dktX1_stormyHours_1 := dk_seg dksX1_stormyHours_0 22 rfl rfl
theorem dksX1_stormyHours_2 : cX1_stormyHours.data.toList.drop 46 = dktX1_stormyHours_2 := dk_seg dksX1_stormyHours_1 24 rfl rfl
theorem dksX1_stormyHours_3 : cX1_stormyHours.data.toList.drop 68 = dktX1_stormyHours_3 := dk_seg dksX1_stormyHours_2 22 rfl rfl
theorem dksX1_stormyHours_4 : cX1_stormyHours.data.toList.drop 91 = dktX1_stormyHours_4 := dk_seg dksX1_stormyHours_3 23 rfl rfl
theorem dX1_stormyHours_0 : decode cX1_stormyHours 0 = .ok (.aload_n 0, 1) := dk_42 (dk_at dksX1_stormyHours_0 0 rfl rfl)
theorem dX1_stormyHours_1 : decode cX1_stormyHours 1 = .ok (.iload_n 1, 1) := dk_27 (dk_at dksX1_stormyHours_0 1 rfl rfl)
theorem dX1_stormyHours_2 : decode cX1_stormyHours 2 = .ok (.iload_n 2, 1) := dk_28 (dk_at dksX1_stormyHours_0 2 rfl rfl)
theorem dX1_stormyHours_3 : decode cX1_stormyHours 3 = .ok (.iload_n 3, 1) := dk_29 (dk_at dksX1_stormyHours_0 3 rfl rfl)
theorem dX1_stormyHours_4 : decode cX1_stormyHours 4 = .ok (.invokevirtual 183, 3) := dk_182 0 183 (dk_at dksX1_stormyHours_0 4 rfl rfl)
theorem dX1_stormyHours_7 : decode cX1_stormyHours 7 = .ok (.istore 5, 2) := dk_54 5 (dk_at dksX1_stormyHours_0 7 rfl rfl)
theorem dX1_stormyHours_9 : decode cX1_stormyHours 9 = .ok (.iconst 0, 1) := dk_3 (dk_at dksX1_stormyHours_0 9 rfl rfl)
theorem dX1_stormyHours_10 : decode cX1_stormyHours 10 = .ok (.istore 6, 2) := dk_54 6 (dk_at dksX1_stormyHours_0 10 rfl rfl)
theorem dX1_stormyHours_12 : decode cX1_stormyHours 12 = .ok (.iload 4, 2) := dk_21 4 (dk_at dksX1_stormyHours_0 12 rfl rfl)
theorem dX1_stormyHours_14 : decode cX1_stormyHours 14 = .ok (.i2l, 1) := dk_133 (dk_at dksX1_stormyHours_0 14 rfl rfl)
theorem dX1_stormyHours_15 : decode cX1_stormyHours 15 = .ok (.lconst 1, 1) := dk_10 (dk_at dksX1_stormyHours_0 15 rfl rfl)
theorem dX1_stormyHours_16 : decode cX1_stormyHours 16 = .ok (.ldc2_w 223, 3) := dk_20 0 223 (dk_at dksX1_stormyHours_0 16 rfl rfl)
theorem dX1_stormyHours_19 : decode cX1_stormyHours 19 = .ok (.invokestatic 54, 3) := dk_184 0 54 (dk_at dksX1_stormyHours_0 19 rfl rfl)
theorem dX1_stormyHours_22 : decode cX1_stormyHours 22 = .ok (.invokestatic 116, 3) := dk_184 0 116 (dk_at dksX1_stormyHours_1 0 rfl rfl)
theorem dX1_stormyHours_25 : decode cX1_stormyHours 25 = .ok (.aload_n 0, 1) := dk_42 (dk_at dksX1_stormyHours_1 3 rfl rfl)
theorem dX1_stormyHours_26 : decode cX1_stormyHours 26 = .ok (.getfield 64, 3) := dk_180 0 64 (dk_at dksX1_stormyHours_1 4 rfl rfl)
theorem dX1_stormyHours_29 : decode cX1_stormyHours 29 = .ok (.getfield 161, 3) := dk_180 0 161 (dk_at dksX1_stormyHours_1 7 rfl rfl)
theorem dX1_stormyHours_32 : decode cX1_stormyHours 32 = .ok (.istore 7, 2) := dk_54 7 (dk_at dksX1_stormyHours_1 10 rfl rfl)
theorem dX1_stormyHours_34 : decode cX1_stormyHours 34 = .ok (.iload 7, 2) := dk_21 7 (dk_at dksX1_stormyHours_1 12 rfl rfl)
theorem dX1_stormyHours_36 : decode cX1_stormyHours 36 = .ok (.aload_n 0, 1) := dk_42 (dk_at dksX1_stormyHours_1 14 rfl rfl)
theorem dX1_stormyHours_37 : decode cX1_stormyHours 37 = .ok (.getfield 64, 3) := dk_180 0 64 (dk_at dksX1_stormyHours_1 15 rfl rfl)
theorem dX1_stormyHours_40 : decode cX1_stormyHours 40 = .ok (.getfield 161, 3) := dk_180 0 161 (dk_at dksX1_stormyHours_1 18 rfl rfl)
theorem dX1_stormyHours_43 : decode cX1_stormyHours 43 = .ok (.iload 4, 2) := dk_21 4 (dk_at dksX1_stormyHours_1 21 rfl rfl)
theorem dX1_stormyHours_45 : decode cX1_stormyHours 45 = .ok (.iadd, 1) := dk_96 (dk_at dksX1_stormyHours_1 23 rfl rfl)
theorem dX1_stormyHours_46 : decode cX1_stormyHours 46 = .ok (.if_icmp .ge 59, 3) := dk_162 0 59 (dk_at dksX1_stormyHours_2 0 rfl rfl)
theorem dX1_stormyHours_49 : decode cX1_stormyHours 49 = .ok (.iconst 0, 1) := dk_3 (dk_at dksX1_stormyHours_2 3 rfl rfl)
theorem dX1_stormyHours_50 : decode cX1_stormyHours 50 = .ok (.istore 8, 2) := dk_54 8 (dk_at dksX1_stormyHours_2 4 rfl rfl)
theorem dX1_stormyHours_52 : decode cX1_stormyHours 52 = .ok (.iconst 0, 1) := dk_3 (dk_at dksX1_stormyHours_2 6 rfl rfl)
theorem dX1_stormyHours_53 : decode cX1_stormyHours 53 = .ok (.istore 9, 2) := dk_54 9 (dk_at dksX1_stormyHours_2 7 rfl rfl)
theorem dX1_stormyHours_55 : decode cX1_stormyHours 55 = .ok (.iload 9, 2) := dk_21 9 (dk_at dksX1_stormyHours_2 9 rfl rfl)
theorem dX1_stormyHours_57 : decode cX1_stormyHours 57 = .ok (.bipush 12, 2) := dk_16 12 (dk_at dksX1_stormyHours_2 11 rfl rfl)
theorem dX1_stormyHours_59 : decode cX1_stormyHours 59 = .ok (.if_icmp .ge 30, 3) := dk_162 0 30 (dk_at dksX1_stormyHours_2 13 rfl rfl)
theorem dX1_stormyHours_62 : decode cX1_stormyHours 62 = .ok (.iload 8, 2) := dk_21 8 (dk_at dksX1_stormyHours_2 16 rfl rfl)
theorem dX1_stormyHours_64 : decode cX1_stormyHours 64 = .ok (.aload_n 0, 1) := dk_42 (dk_at dksX1_stormyHours_2 18 rfl rfl)
theorem dX1_stormyHours_65 : decode cX1_stormyHours 65 = .ok (.getfield 64, 3) := dk_180 0 64 (dk_at dksX1_stormyHours_2 19 rfl rfl)
theorem dX1_stormyHours_68 : decode cX1_stormyHours 68 = .ok (.getfield 87, 3) := dk_180 0 87 (dk_at dksX1_stormyHours_3 0 rfl rfl)
theorem dX1_stormyHours_71 : decode cX1_stormyHours 71 = .ok (.iload 5, 2) := dk_21 5 (dk_at dksX1_stormyHours_3 3 rfl rfl)
theorem dX1_stormyHours_73 : decode cX1_stormyHours 73 = .ok (.iload 7, 2) := dk_21 7 (dk_at dksX1_stormyHours_3 5 rfl rfl)
theorem dX1_stormyHours_75 : decode cX1_stormyHours 75 = .ok (.iload 9, 2) := dk_21 9 (dk_at dksX1_stormyHours_3 7 rfl rfl)
theorem dX1_stormyHours_77 : decode cX1_stormyHours 77 = .ok (.invokevirtual 208, 3) := dk_182 0 208 (dk_at dksX1_stormyHours_3 9 rfl rfl)
theorem dX1_stormyHours_80 : decode cX1_stormyHours 80 = .ok (.ior, 1) := dk_128 (dk_at dksX1_stormyHours_3 12 rfl rfl)
theorem dX1_stormyHours_81 : decode cX1_stormyHours 81 = .ok (.istore 8, 2) := dk_54 8 (dk_at dksX1_stormyHours_3 13 rfl rfl)
theorem dX1_stormyHours_83 : decode cX1_stormyHours 83 = .ok (.iinc 9 1, 3) := dk_132 9 1 (dk_at dksX1_stormyHours_3 15 rfl rfl)
theorem dX1_stormyHours_86 : decode cX1_stormyHours 86 = .ok (.goto (-31), 3) := dk_167 255 225 (dk_at dksX1_stormyHours_3 18 rfl rfl)
theorem dX1_stormyHours_89 : decode cX1_stormyHours 89 = .ok (.iload 6, 2) := dk_21 6 (dk_at dksX1_stormyHours_3 21 rfl rfl)
theorem dX1_stormyHours_91 : decode cX1_stormyHours 91 = .ok (.iload 8, 2) := dk_21 8 (dk_at dksX1_stormyHours_4 0 rfl rfl)
theorem dX1_stormyHours_93 : decode cX1_stormyHours 93 = .ok (.invokestatic 197, 3) := dk_184 0 197 (dk_at dksX1_stormyHours_4 2 rfl rfl)
theorem dX1_stormyHours_96 : decode cX1_stormyHours 96 = .ok (.iadd, 1) := dk_96 (dk_at dksX1_stormyHours_4 5 rfl rfl)
theorem dX1_stormyHours_97 : decode cX1_stormyHours 97 = .ok (.istore 6, 2) := dk_54 6 (dk_at dksX1_stormyHours_4 6 rfl rfl)
theorem dX1_stormyHours_99 : decode cX1_stormyHours 99 = .ok (.iinc 7 1, 3) := dk_132 7 1 (dk_at dksX1_stormyHours_4 8 rfl rfl)
theorem dX1_stormyHours_102 : decode cX1_stormyHours 102 = .ok (.goto (-68), 3) := dk_167 255 188 (dk_at dksX1_stormyHours_4 11 rfl rfl)
theorem dX1_stormyHours_105 : decode cX1_stormyHours 105 = .ok (.iload 6, 2) := dk_21 6 (dk_at dksX1_stormyHours_4 14 rfl rfl)
theorem dX1_stormyHours_107 : decode cX1_stormyHours 107 = .ok (.ireturn, 1) := dk_172 (dk_at dksX1_stormyHours_4 16 rfl rfl)
abbrev cX1_message : ByteArray := prog_1_method_34_code
def yX1_message : MethodName := ⟨RX1, "message", "(II)I"⟩
def dkwX1_message_6 : List UInt8 := [183, 0, 53, 191, 172]
abbrev dktX1_message_6 : List UInt8 := dkwX1_message_6 ++ []
def dkwX1_message_5 : List UInt8 := [182, 0, 105, 104, 45, 182, 0, 239, 100, 21, 4, 100, 167, 0, 16, 21, 4, 167, 0, 11, 187, 0, 51, 89]
abbrev dktX1_message_5 : List UInt8 := dkwX1_message_5 ++ dktX1_message_6
def dkwX1_message_4 : List UInt8 := [180, 0, 234, 167, 0, 47, 45, 180, 0, 237, 167, 0, 40, 45, 182, 0, 239, 167, 0, 33, 6, 45]
abbrev dktX1_message_4 : List UInt8 := dkwX1_message_4 ++ dktX1_message_5
def dkwX1_message_3 : List UInt8 := [45, 182, 0, 105, 167, 0, 68, 45, 180, 0, 230, 167, 0, 61, 45, 180, 0, 233, 167, 0, 54, 45]
abbrev dktX1_message_3 : List UInt8 := dkwX1_message_3 ++ dktX1_message_4
def dkwX1_message_2 : List UInt8 := [170, 0, 0, 0, 0, 110, 0, 0, 0, 0, 0, 0, 0, 7, 0, 0, 0, 46, 0, 0, 0, 53, 0, 0, 0, 60, 0, 0, 0, 67, 0, 0, 0, 74, 0, 0, 0, 81, 0, 0, 0, 88, 0, 0, 0, 105]
abbrev dktX1_message_2 : List UInt8 := dkwX1_message_2 ++ dktX1_message_3
def dkwX1_message_1 : List UInt8 := [54, 4, 28]
abbrev dktX1_message_1 : List UInt8 := dkwX1_message_1 ++ dktX1_message_2
def dkwX1_message_0 : List UInt8 := [42, 27, 182, 0, 102, 78, 45, 3, 182, 0, 228, 45, 4, 182, 0, 228, 96, 45, 5, 182, 0, 228, 96]
abbrev dktX1_message_0 : List UInt8 := dkwX1_message_0 ++ dktX1_message_1
theorem dksX1_message_0 : cX1_message.data.toList.drop 0 = dktX1_message_0 := by decide +kernel
theorem dksX1_message_1 : cX1_message.data.toList.drop 23 = dktX1_message_1 := dk_seg dksX1_message_0 23 rfl rfl
theorem dksX1_message_2 : cX1_message.data.toList.drop 26 = dktX1_message_2 := dk_seg dksX1_message_1 3 rfl rfl
theorem dksX1_message_3 : cX1_message.data.toList.drop 72 = dktX1_message_3 := dk_seg dksX1_message_2 46 rfl rfl
theorem dksX1_message_4 : cX1_message.data.toList.drop 94 = dktX1_message_4 := dk_seg dksX1_message_3 22 rfl rfl
theorem dksX1_message_5 : cX1_message.data.toList.drop 116 = dktX1_message_5 := dk_seg dksX1_message_4 22 rfl rfl
theorem dksX1_message_6 : cX1_message.data.toList.drop 140 = dktX1_message_6 := dk_seg dksX1_message_5 24 rfl rfl
theorem dX1_message_0 : decode cX1_message 0 = .ok (.aload_n 0, 1) := dk_42 (dk_at dksX1_message_0 0 rfl rfl)
theorem dX1_message_1 : decode cX1_message 1 = .ok (.iload_n 1, 1) := dk_27 (dk_at dksX1_message_0 1 rfl rfl)
theorem dX1_message_2 : decode cX1_message 2 = .ok (.invokevirtual 102, 3) := dk_182 0 102 (dk_at dksX1_message_0 2 rfl rfl)
theorem dX1_message_5 : decode cX1_message 5 = .ok (.astore_n 3, 1) := dk_78 (dk_at dksX1_message_0 5 rfl rfl)
theorem dX1_message_6 : decode cX1_message 6 = .ok (.aload_n 3, 1) := dk_45 (dk_at dksX1_message_0 6 rfl rfl)
theorem dX1_message_7 : decode cX1_message 7 = .ok (.iconst 0, 1) := dk_3 (dk_at dksX1_message_0 7 rfl rfl)
theorem dX1_message_8 : decode cX1_message 8 = .ok (.invokevirtual 228, 3) := dk_182 0 228 (dk_at dksX1_message_0 8 rfl rfl)
theorem dX1_message_11 : decode cX1_message 11 = .ok (.aload_n 3, 1) := dk_45 (dk_at dksX1_message_0 11 rfl rfl)
theorem dX1_message_12 : decode cX1_message 12 = .ok (.iconst 1, 1) := dk_4 (dk_at dksX1_message_0 12 rfl rfl)
theorem dX1_message_13 : decode cX1_message 13 = .ok (.invokevirtual 228, 3) := dk_182 0 228 (dk_at dksX1_message_0 13 rfl rfl)
theorem dX1_message_16 : decode cX1_message 16 = .ok (.iadd, 1) := dk_96 (dk_at dksX1_message_0 16 rfl rfl)
theorem dX1_message_17 : decode cX1_message 17 = .ok (.aload_n 3, 1) := dk_45 (dk_at dksX1_message_0 17 rfl rfl)
theorem dX1_message_18 : decode cX1_message 18 = .ok (.iconst 2, 1) := dk_5 (dk_at dksX1_message_0 18 rfl rfl)
theorem dX1_message_19 : decode cX1_message 19 = .ok (.invokevirtual 228, 3) := dk_182 0 228 (dk_at dksX1_message_0 19 rfl rfl)
theorem dX1_message_22 : decode cX1_message 22 = .ok (.iadd, 1) := dk_96 (dk_at dksX1_message_0 22 rfl rfl)
theorem dX1_message_23 : decode cX1_message 23 = .ok (.istore 4, 2) := dk_54 4 (dk_at dksX1_message_1 0 rfl rfl)
theorem dX1_message_25 : decode cX1_message 25 = .ok (.iload_n 2, 1) := dk_28 (dk_at dksX1_message_1 2 rfl rfl)
theorem dX1_message_26 : decode cX1_message 26 = .ok (.tableswitch 110 0 7 #[46, 53, 60, 67, 74, 81, 88, 105], 46) := by decide +kernel
theorem dX1_message_72 : decode cX1_message 72 = .ok (.aload_n 3, 1) := dk_45 (dk_at dksX1_message_3 0 rfl rfl)
theorem dX1_message_73 : decode cX1_message 73 = .ok (.invokevirtual 105, 3) := dk_182 0 105 (dk_at dksX1_message_3 1 rfl rfl)
theorem dX1_message_76 : decode cX1_message 76 = .ok (.goto 68, 3) := dk_167 0 68 (dk_at dksX1_message_3 4 rfl rfl)
theorem dX1_message_79 : decode cX1_message 79 = .ok (.aload_n 3, 1) := dk_45 (dk_at dksX1_message_3 7 rfl rfl)
theorem dX1_message_80 : decode cX1_message 80 = .ok (.getfield 230, 3) := dk_180 0 230 (dk_at dksX1_message_3 8 rfl rfl)
theorem dX1_message_83 : decode cX1_message 83 = .ok (.goto 61, 3) := dk_167 0 61 (dk_at dksX1_message_3 11 rfl rfl)
theorem dX1_message_86 : decode cX1_message 86 = .ok (.aload_n 3, 1) := dk_45 (dk_at dksX1_message_3 14 rfl rfl)
theorem dX1_message_87 : decode cX1_message 87 = .ok (.getfield 233, 3) := dk_180 0 233 (dk_at dksX1_message_3 15 rfl rfl)
theorem dX1_message_90 : decode cX1_message 90 = .ok (.goto 54, 3) := dk_167 0 54 (dk_at dksX1_message_3 18 rfl rfl)
theorem dX1_message_93 : decode cX1_message 93 = .ok (.aload_n 3, 1) := dk_45 (dk_at dksX1_message_3 21 rfl rfl)
theorem dX1_message_94 : decode cX1_message 94 = .ok (.getfield 234, 3) := dk_180 0 234 (dk_at dksX1_message_4 0 rfl rfl)
theorem dX1_message_97 : decode cX1_message 97 = .ok (.goto 47, 3) := dk_167 0 47 (dk_at dksX1_message_4 3 rfl rfl)
theorem dX1_message_100 : decode cX1_message 100 = .ok (.aload_n 3, 1) := dk_45 (dk_at dksX1_message_4 6 rfl rfl)
theorem dX1_message_101 : decode cX1_message 101 = .ok (.getfield 237, 3) := dk_180 0 237 (dk_at dksX1_message_4 7 rfl rfl)
theorem dX1_message_104 : decode cX1_message 104 = .ok (.goto 40, 3) := dk_167 0 40 (dk_at dksX1_message_4 10 rfl rfl)
theorem dX1_message_107 : decode cX1_message 107 = .ok (.aload_n 3, 1) := dk_45 (dk_at dksX1_message_4 13 rfl rfl)
theorem dX1_message_108 : decode cX1_message 108 = .ok (.invokevirtual 239, 3) := dk_182 0 239 (dk_at dksX1_message_4 14 rfl rfl)
theorem dX1_message_111 : decode cX1_message 111 = .ok (.goto 33, 3) := dk_167 0 33 (dk_at dksX1_message_4 17 rfl rfl)
theorem dX1_message_114 : decode cX1_message 114 = .ok (.iconst 3, 1) := dk_6 (dk_at dksX1_message_4 20 rfl rfl)
theorem dX1_message_115 : decode cX1_message 115 = .ok (.aload_n 3, 1) := dk_45 (dk_at dksX1_message_4 21 rfl rfl)
theorem dX1_message_116 : decode cX1_message 116 = .ok (.invokevirtual 105, 3) := dk_182 0 105 (dk_at dksX1_message_5 0 rfl rfl)
theorem dX1_message_119 : decode cX1_message 119 = .ok (.imul, 1) := dk_104 (dk_at dksX1_message_5 3 rfl rfl)
theorem dX1_message_120 : decode cX1_message 120 = .ok (.aload_n 3, 1) := dk_45 (dk_at dksX1_message_5 4 rfl rfl)
theorem dX1_message_121 : decode cX1_message 121 = .ok (.invokevirtual 239, 3) := dk_182 0 239 (dk_at dksX1_message_5 5 rfl rfl)
theorem dX1_message_124 : decode cX1_message 124 = .ok (.isub, 1) := dk_100 (dk_at dksX1_message_5 8 rfl rfl)
theorem dX1_message_125 : decode cX1_message 125 = .ok (.iload 4, 2) := dk_21 4 (dk_at dksX1_message_5 9 rfl rfl)
theorem dX1_message_127 : decode cX1_message 127 = .ok (.isub, 1) := dk_100 (dk_at dksX1_message_5 11 rfl rfl)
theorem dX1_message_128 : decode cX1_message 128 = .ok (.goto 16, 3) := dk_167 0 16 (dk_at dksX1_message_5 12 rfl rfl)
theorem dX1_message_131 : decode cX1_message 131 = .ok (.iload 4, 2) := dk_21 4 (dk_at dksX1_message_5 15 rfl rfl)
theorem dX1_message_133 : decode cX1_message 133 = .ok (.goto 11, 3) := dk_167 0 11 (dk_at dksX1_message_5 17 rfl rfl)
theorem dX1_message_136 : decode cX1_message 136 = .ok (.new 51, 3) := dk_187 0 51 (dk_at dksX1_message_5 20 rfl rfl)
theorem dX1_message_139 : decode cX1_message 139 = .ok (.dup, 1) := dk_89 (dk_at dksX1_message_5 23 rfl rfl)
theorem dX1_message_140 : decode cX1_message 140 = .ok (.invokespecial 53, 3) := dk_183 0 53 (dk_at dksX1_message_6 0 rfl rfl)
theorem dX1_message_143 : decode cX1_message 143 = .ok (.athrow, 1) := dk_191 (dk_at dksX1_message_6 3 rfl rfl)
theorem dX1_message_144 : decode cX1_message 144 = .ok (.ireturn, 1) := dk_172 (dk_at dksX1_message_6 4 rfl rfl)
abbrev cX1_checkMessage : ByteArray := prog_1_method_14_code
def yX1_checkMessage : MethodName := ⟨RX1, "checkMessage", "(I)LVotingHuts$Message;"⟩
def dkwX1_checkMessage_0 : List UInt8 := [42, 182, 0, 72, 77, 27, 44, 180, 0, 94, 185, 0, 3, 1, 0, 184, 0, 79, 44, 27, 182, 0, 98, 176]
abbrev dktX1_checkMessage_0 : List UInt8 := dkwX1_checkMessage_0 ++ []
theorem dksX1_checkMessage_0 : cX1_checkMessage.data.toList.drop 0 = dktX1_checkMessage_0 := by decide +kernel
theorem dX1_checkMessage_0 : decode cX1_checkMessage 0 = .ok (.aload_n 0, 1) := dk_42 (dk_at dksX1_checkMessage_0 0 rfl rfl)
theorem dX1_checkMessage_1 : decode cX1_checkMessage 1 = .ok (.invokevirtual 72, 3) := dk_182 0 72 (dk_at dksX1_checkMessage_0 1 rfl rfl)
theorem dX1_checkMessage_4 : decode cX1_checkMessage 4 = .ok (.astore_n 2, 1) := dk_77 (dk_at dksX1_checkMessage_0 4 rfl rfl)
theorem dX1_checkMessage_5 : decode cX1_checkMessage 5 = .ok (.iload_n 1, 1) := dk_27 (dk_at dksX1_checkMessage_0 5 rfl rfl)
theorem dX1_checkMessage_6 : decode cX1_checkMessage 6 = .ok (.aload_n 2, 1) := dk_44 (dk_at dksX1_checkMessage_0 6 rfl rfl)
theorem dX1_checkMessage_7 : decode cX1_checkMessage 7 = .ok (.getfield 94, 3) := dk_180 0 94 (dk_at dksX1_checkMessage_0 7 rfl rfl)
theorem dX1_checkMessage_10 : decode cX1_checkMessage 10 = .ok (.invokeinterface 3 1, 5) := by decide +kernel
theorem dX1_checkMessage_15 : decode cX1_checkMessage 15 = .ok (.invokestatic 79, 3) := dk_184 0 79 (dk_at dksX1_checkMessage_0 15 rfl rfl)
theorem dX1_checkMessage_18 : decode cX1_checkMessage 18 = .ok (.aload_n 2, 1) := dk_44 (dk_at dksX1_checkMessage_0 18 rfl rfl)
theorem dX1_checkMessage_19 : decode cX1_checkMessage 19 = .ok (.iload_n 1, 1) := dk_27 (dk_at dksX1_checkMessage_0 19 rfl rfl)
theorem dX1_checkMessage_20 : decode cX1_checkMessage 20 = .ok (.invokevirtual 98, 3) := dk_182 0 98 (dk_at dksX1_checkMessage_0 20 rfl rfl)
theorem dX1_checkMessage_23 : decode cX1_checkMessage 23 = .ok (.areturn, 1) := dk_176 (dk_at dksX1_checkMessage_0 23 rfl rfl)
abbrev cX1_digit : ByteArray := prog_1_method_35_code
def yX1_digit : MethodName := ⟨RX1, "digit", "(II)I"⟩
def dkwX1_digit_0 : List UInt8 := [42, 27, 28, 182, 0, 242, 180, 0, 245, 28, 46, 172]
abbrev dktX1_digit_0 : List UInt8 := dkwX1_digit_0 ++ []
theorem dksX1_digit_0 : cX1_digit.data.toList.drop 0 = dktX1_digit_0 := by decide +kernel
theorem dX1_digit_0 : decode cX1_digit 0 = .ok (.aload_n 0, 1) := dk_42 (dk_at dksX1_digit_0 0 rfl rfl)
theorem dX1_digit_1 : decode cX1_digit 1 = .ok (.iload_n 1, 1) := dk_27 (dk_at dksX1_digit_0 1 rfl rfl)
theorem dX1_digit_2 : decode cX1_digit 2 = .ok (.iload_n 2, 1) := dk_28 (dk_at dksX1_digit_0 2 rfl rfl)
theorem dX1_digit_3 : decode cX1_digit 3 = .ok (.invokevirtual 242, 3) := dk_182 0 242 (dk_at dksX1_digit_0 3 rfl rfl)
theorem dX1_digit_6 : decode cX1_digit 6 = .ok (.getfield 245, 3) := dk_180 0 245 (dk_at dksX1_digit_0 6 rfl rfl)
theorem dX1_digit_9 : decode cX1_digit 9 = .ok (.iload_n 2, 1) := dk_28 (dk_at dksX1_digit_0 9 rfl rfl)
theorem dX1_digit_10 : decode cX1_digit 10 = .ok (.iaload, 1) := dk_46 (dk_at dksX1_digit_0 10 rfl rfl)
theorem dX1_digit_11 : decode cX1_digit 11 = .ok (.ireturn, 1) := dk_172 (dk_at dksX1_digit_0 11 rfl rfl)
abbrev cX1_checkPlace : ByteArray := prog_1_method_16_code
def yX1_checkPlace : MethodName := ⟨RX1, "checkPlace", "(II)LVotingHuts$Message;"⟩
def dkwX1_checkPlace_0 : List UInt8 := [42, 27, 182, 0, 102, 78, 28, 45, 182, 0, 105, 184, 0, 79, 45, 176]
abbrev dktX1_checkPlace_0 : List UInt8 := dkwX1_checkPlace_0 ++ []
theorem dksX1_checkPlace_0 : cX1_checkPlace.data.toList.drop 0 = dktX1_checkPlace_0 := by decide +kernel
theorem dX1_checkPlace_0 : decode cX1_checkPlace 0 = .ok (.aload_n 0, 1) := dk_42 (dk_at dksX1_checkPlace_0 0 rfl rfl)
theorem dX1_checkPlace_1 : decode cX1_checkPlace 1 = .ok (.iload_n 1, 1) := dk_27 (dk_at dksX1_checkPlace_0 1 rfl rfl)
theorem dX1_checkPlace_2 : decode cX1_checkPlace 2 = .ok (.invokevirtual 102, 3) := dk_182 0 102 (dk_at dksX1_checkPlace_0 2 rfl rfl)
theorem dX1_checkPlace_5 : decode cX1_checkPlace 5 = .ok (.astore_n 3, 1) := dk_78 (dk_at dksX1_checkPlace_0 5 rfl rfl)
theorem dX1_checkPlace_6 : decode cX1_checkPlace 6 = .ok (.iload_n 2, 1) := dk_28 (dk_at dksX1_checkPlace_0 6 rfl rfl)
theorem dX1_checkPlace_7 : decode cX1_checkPlace 7 = .ok (.aload_n 3, 1) := dk_45 (dk_at dksX1_checkPlace_0 7 rfl rfl)
theorem dX1_checkPlace_8 : decode cX1_checkPlace 8 = .ok (.invokevirtual 105, 3) := dk_182 0 105 (dk_at dksX1_checkPlace_0 8 rfl rfl)
theorem dX1_checkPlace_11 : decode cX1_checkPlace 11 = .ok (.invokestatic 79, 3) := dk_184 0 79 (dk_at dksX1_checkPlace_0 11 rfl rfl)
theorem dX1_checkPlace_14 : decode cX1_checkPlace 14 = .ok (.aload_n 3, 1) := dk_45 (dk_at dksX1_checkPlace_0 14 rfl rfl)
theorem dX1_checkPlace_15 : decode cX1_checkPlace 15 = .ok (.areturn, 1) := dk_176 (dk_at dksX1_checkPlace_0 15 rfl rfl)
abbrev cX1_has : ByteArray := prog_1_method_36_code
def yX1_has : MethodName := ⟨RX1, "has", "(III)I"⟩
def dkwX1_has_0 : List UInt8 := [42, 27, 28, 29, 182, 0, 248, 180, 0, 252, 28, 50, 29, 46, 172]
abbrev dktX1_has_0 : List UInt8 := dkwX1_has_0 ++ []
theorem dksX1_has_0 : cX1_has.data.toList.drop 0 = dktX1_has_0 := by decide +kernel
theorem dX1_has_0 : decode cX1_has 0 = .ok (.aload_n 0, 1) := dk_42 (dk_at dksX1_has_0 0 rfl rfl)
theorem dX1_has_1 : decode cX1_has 1 = .ok (.iload_n 1, 1) := dk_27 (dk_at dksX1_has_0 1 rfl rfl)
theorem dX1_has_2 : decode cX1_has 2 = .ok (.iload_n 2, 1) := dk_28 (dk_at dksX1_has_0 2 rfl rfl)
theorem dX1_has_3 : decode cX1_has 3 = .ok (.iload_n 3, 1) := dk_29 (dk_at dksX1_has_0 3 rfl rfl)
theorem dX1_has_4 : decode cX1_has 4 = .ok (.invokevirtual 248, 3) := dk_182 0 248 (dk_at dksX1_has_0 4 rfl rfl)
theorem dX1_has_7 : decode cX1_has 7 = .ok (.getfield 252, 3) := dk_180 0 252 (dk_at dksX1_has_0 7 rfl rfl)
theorem dX1_has_10 : decode cX1_has 10 = .ok (.iload_n 2, 1) := dk_28 (dk_at dksX1_has_0 10 rfl rfl)
theorem dX1_has_11 : decode cX1_has 11 = .ok (.aaload, 1) := dk_50 (dk_at dksX1_has_0 11 rfl rfl)
theorem dX1_has_12 : decode cX1_has 12 = .ok (.iload_n 3, 1) := dk_29 (dk_at dksX1_has_0 12 rfl rfl)
theorem dX1_has_13 : decode cX1_has 13 = .ok (.iaload, 1) := dk_46 (dk_at dksX1_has_0 13 rfl rfl)
theorem dX1_has_14 : decode cX1_has 14 = .ok (.ireturn, 1) := dk_172 (dk_at dksX1_has_0 14 rfl rfl)
abbrev cX1_checkBoth : ByteArray := prog_1_method_17_code
def yX1_checkBoth : MethodName := ⟨RX1, "checkBoth", "(III)LVotingHuts$Message;"⟩
def dkwX1_checkBoth_0 : List UInt8 := [42, 27, 28, 182, 0, 110, 58, 4, 29, 25, 4, 182, 0, 105, 184, 0, 79, 25, 4, 176]
abbrev dktX1_checkBoth_0 : List UInt8 := dkwX1_checkBoth_0 ++ []
theorem dksX1_checkBoth_0 : cX1_checkBoth.data.toList.drop 0 = dktX1_checkBoth_0 := by decide +kernel
theorem dX1_checkBoth_0 : decode cX1_checkBoth 0 = .ok (.aload_n 0, 1) := dk_42 (dk_at dksX1_checkBoth_0 0 rfl rfl)
theorem dX1_checkBoth_1 : decode cX1_checkBoth 1 = .ok (.iload_n 1, 1) := dk_27 (dk_at dksX1_checkBoth_0 1 rfl rfl)
theorem dX1_checkBoth_2 : decode cX1_checkBoth 2 = .ok (.iload_n 2, 1) := dk_28 (dk_at dksX1_checkBoth_0 2 rfl rfl)
theorem dX1_checkBoth_3 : decode cX1_checkBoth 3 = .ok (.invokevirtual 110, 3) := dk_182 0 110 (dk_at dksX1_checkBoth_0 3 rfl rfl)
theorem dX1_checkBoth_6 : decode cX1_checkBoth 6 = .ok (.astore 4, 2) := dk_58 4 (dk_at dksX1_checkBoth_0 6 rfl rfl)
theorem dX1_checkBoth_8 : decode cX1_checkBoth 8 = .ok (.iload_n 3, 1) := dk_29 (dk_at dksX1_checkBoth_0 8 rfl rfl)
theorem dX1_checkBoth_9 : decode cX1_checkBoth 9 = .ok (.aload 4, 2) := dk_25 4 (dk_at dksX1_checkBoth_0 9 rfl rfl)
theorem dX1_checkBoth_11 : decode cX1_checkBoth 11 = .ok (.invokevirtual 105, 3) := dk_182 0 105 (dk_at dksX1_checkBoth_0 11 rfl rfl)
theorem dX1_checkBoth_14 : decode cX1_checkBoth 14 = .ok (.invokestatic 79, 3) := dk_184 0 79 (dk_at dksX1_checkBoth_0 14 rfl rfl)
theorem dX1_checkBoth_17 : decode cX1_checkBoth 17 = .ok (.aload 4, 2) := dk_25 4 (dk_at dksX1_checkBoth_0 17 rfl rfl)
theorem dX1_checkBoth_19 : decode cX1_checkBoth 19 = .ok (.areturn, 1) := dk_176 (dk_at dksX1_checkBoth_0 19 rfl rfl)
abbrev cX1_checkHut : ByteArray := prog_1_method_15_code
def yX1_checkHut : MethodName := ⟨RX1, "checkHut", "(II)LVotingHuts$Message;"⟩
def dkwX1_checkHut_0 : List UInt8 := [42, 27, 182, 0, 102, 78, 28, 6, 184, 0, 79, 45, 176]
abbrev dktX1_checkHut_0 : List UInt8 := dkwX1_checkHut_0 ++ []
theorem dksX1_checkHut_0 : cX1_checkHut.data.toList.drop 0 = dktX1_checkHut_0 := by decide +kernel
theorem dX1_checkHut_0 : decode cX1_checkHut 0 = .ok (.aload_n 0, 1) := dk_42 (dk_at dksX1_checkHut_0 0 rfl rfl)
theorem dX1_checkHut_1 : decode cX1_checkHut 1 = .ok (.iload_n 1, 1) := dk_27 (dk_at dksX1_checkHut_0 1 rfl rfl)
theorem dX1_checkHut_2 : decode cX1_checkHut 2 = .ok (.invokevirtual 102, 3) := dk_182 0 102 (dk_at dksX1_checkHut_0 2 rfl rfl)
theorem dX1_checkHut_5 : decode cX1_checkHut 5 = .ok (.astore_n 3, 1) := dk_78 (dk_at dksX1_checkHut_0 5 rfl rfl)
theorem dX1_checkHut_6 : decode cX1_checkHut 6 = .ok (.iload_n 2, 1) := dk_28 (dk_at dksX1_checkHut_0 6 rfl rfl)
theorem dX1_checkHut_7 : decode cX1_checkHut 7 = .ok (.iconst 3, 1) := dk_6 (dk_at dksX1_checkHut_0 7 rfl rfl)
theorem dX1_checkHut_8 : decode cX1_checkHut 8 = .ok (.invokestatic 79, 3) := dk_184 0 79 (dk_at dksX1_checkHut_0 8 rfl rfl)
theorem dX1_checkHut_11 : decode cX1_checkHut 11 = .ok (.aload_n 3, 1) := dk_45 (dk_at dksX1_checkHut_0 11 rfl rfl)
theorem dX1_checkHut_12 : decode cX1_checkHut 12 = .ok (.areturn, 1) := dk_176 (dk_at dksX1_checkHut_0 12 rfl rfl)
abbrev cX1_copy : ByteArray := prog_1_method_37_code
def yX1_copy : MethodName := ⟨RX1, "copy", "(IIII)I"⟩
def dkwX1_copy_1 : List UInt8 := [172]
abbrev dktX1_copy_1 : List UInt8 := dkwX1_copy_1 ++ []
def dkwX1_copy_0 : List UInt8 := [42, 27, 28, 29, 182, 0, 248, 58, 5, 21, 4, 6, 184, 0, 79, 25, 5, 28, 29, 21, 4, 182, 1, 0]
abbrev dktX1_copy_0 : List UInt8 := dkwX1_copy_0 ++ dktX1_copy_1
theorem dksX1_copy_0 : cX1_copy.data.toList.drop 0 = dktX1_copy_0 := by decide +kernel
theorem dksX1_copy_1 : cX1_copy.data.toList.drop 24 = dktX1_copy_1 := dk_seg dksX1_copy_0 24 rfl rfl
theorem dX1_copy_0 : decode cX1_copy 0 = .ok (.aload_n 0, 1) := dk_42 (dk_at dksX1_copy_0 0 rfl rfl)
theorem dX1_copy_1 : decode cX1_copy 1 = .ok (.iload_n 1, 1) := dk_27 (dk_at dksX1_copy_0 1 rfl rfl)
theorem dX1_copy_2 : decode cX1_copy 2 = .ok (.iload_n 2, 1) := dk_28 (dk_at dksX1_copy_0 2 rfl rfl)
theorem dX1_copy_3 : decode cX1_copy 3 = .ok (.iload_n 3, 1) := dk_29 (dk_at dksX1_copy_0 3 rfl rfl)
theorem dX1_copy_4 : decode cX1_copy 4 = .ok (.invokevirtual 248, 3) := dk_182 0 248 (dk_at dksX1_copy_0 4 rfl rfl)
theorem dX1_copy_7 : decode cX1_copy 7 = .ok (.astore 5, 2) := dk_58 5 (dk_at dksX1_copy_0 7 rfl rfl)
theorem dX1_copy_9 : decode cX1_copy 9 = .ok (.iload 4, 2) := dk_21 4 (dk_at dksX1_copy_0 9 rfl rfl)
theorem dX1_copy_11 : decode cX1_copy 11 = .ok (.iconst 3, 1) := dk_6 (dk_at dksX1_copy_0 11 rfl rfl)
theorem dX1_copy_12 : decode cX1_copy 12 = .ok (.invokestatic 79, 3) := dk_184 0 79 (dk_at dksX1_copy_0 12 rfl rfl)
theorem dX1_copy_15 : decode cX1_copy 15 = .ok (.aload 5, 2) := dk_25 5 (dk_at dksX1_copy_0 15 rfl rfl)
theorem dX1_copy_17 : decode cX1_copy 17 = .ok (.iload_n 2, 1) := dk_28 (dk_at dksX1_copy_0 17 rfl rfl)
theorem dX1_copy_18 : decode cX1_copy 18 = .ok (.iload_n 3, 1) := dk_29 (dk_at dksX1_copy_0 18 rfl rfl)
theorem dX1_copy_19 : decode cX1_copy 19 = .ok (.iload 4, 2) := dk_21 4 (dk_at dksX1_copy_0 19 rfl rfl)
theorem dX1_copy_21 : decode cX1_copy 21 = .ok (.invokevirtual 256, 3) := dk_182 1 0 (dk_at dksX1_copy_0 21 rfl rfl)
theorem dX1_copy_24 : decode cX1_copy 24 = .ok (.ireturn, 1) := dk_172 (dk_at dksX1_copy_1 0 rfl rfl)
abbrev cX1_vote : ByteArray := prog_1_method_38_code
def yX1_vote : MethodName := ⟨RX1, "vote", "(III)I"⟩
def dkwX1_vote_0 : List UInt8 := [42, 27, 28, 29, 182, 0, 248, 28, 29, 182, 1, 3, 172]
abbrev dktX1_vote_0 : List UInt8 := dkwX1_vote_0 ++ []
theorem dksX1_vote_0 : cX1_vote.data.toList.drop 0 = dktX1_vote_0 := by decide +kernel
theorem dX1_vote_0 : decode cX1_vote 0 = .ok (.aload_n 0, 1) := dk_42 (dk_at dksX1_vote_0 0 rfl rfl)
theorem dX1_vote_1 : decode cX1_vote 1 = .ok (.iload_n 1, 1) := dk_27 (dk_at dksX1_vote_0 1 rfl rfl)
theorem dX1_vote_2 : decode cX1_vote 2 = .ok (.iload_n 2, 1) := dk_28 (dk_at dksX1_vote_0 2 rfl rfl)
theorem dX1_vote_3 : decode cX1_vote 3 = .ok (.iload_n 3, 1) := dk_29 (dk_at dksX1_vote_0 3 rfl rfl)
theorem dX1_vote_4 : decode cX1_vote 4 = .ok (.invokevirtual 248, 3) := dk_182 0 248 (dk_at dksX1_vote_0 4 rfl rfl)
theorem dX1_vote_7 : decode cX1_vote 7 = .ok (.iload_n 2, 1) := dk_28 (dk_at dksX1_vote_0 7 rfl rfl)
theorem dX1_vote_8 : decode cX1_vote 8 = .ok (.iload_n 3, 1) := dk_29 (dk_at dksX1_vote_0 8 rfl rfl)
theorem dX1_vote_9 : decode cX1_vote 9 = .ok (.invokevirtual 259, 3) := dk_182 1 3 (dk_at dksX1_vote_0 9 rfl rfl)
theorem dX1_vote_12 : decode cX1_vote 12 = .ok (.ireturn, 1) := dk_172 (dk_at dksX1_vote_0 12 rfl rfl)
abbrev cX1_unsure : ByteArray := prog_1_method_39_code
def yX1_unsure : MethodName := ⟨RX1, "unsure", "(II)I"⟩
def dkwX1_unsure_0 : List UInt8 := [42, 27, 28, 182, 0, 110, 28, 182, 1, 6, 172]
abbrev dktX1_unsure_0 : List UInt8 := dkwX1_unsure_0 ++ []
theorem dksX1_unsure_0 : cX1_unsure.data.toList.drop 0 = dktX1_unsure_0 := by decide +kernel
theorem dX1_unsure_0 : decode cX1_unsure 0 = .ok (.aload_n 0, 1) := dk_42 (dk_at dksX1_unsure_0 0 rfl rfl)
theorem dX1_unsure_1 : decode cX1_unsure 1 = .ok (.iload_n 1, 1) := dk_27 (dk_at dksX1_unsure_0 1 rfl rfl)
theorem dX1_unsure_2 : decode cX1_unsure 2 = .ok (.iload_n 2, 1) := dk_28 (dk_at dksX1_unsure_0 2 rfl rfl)
theorem dX1_unsure_3 : decode cX1_unsure 3 = .ok (.invokevirtual 110, 3) := dk_182 0 110 (dk_at dksX1_unsure_0 3 rfl rfl)
theorem dX1_unsure_6 : decode cX1_unsure 6 = .ok (.iload_n 2, 1) := dk_28 (dk_at dksX1_unsure_0 6 rfl rfl)
theorem dX1_unsure_7 : decode cX1_unsure 7 = .ok (.invokevirtual 262, 3) := dk_182 1 6 (dk_at dksX1_unsure_0 7 rfl rfl)
theorem dX1_unsure_10 : decode cX1_unsure 10 = .ok (.ireturn, 1) := dk_172 (dk_at dksX1_unsure_0 10 rfl rfl)
abbrev cX1_wrong : ByteArray := prog_1_method_40_code
def yX1_wrong : MethodName := ⟨RX1, "wrong", "(II)I"⟩
def dkwX1_wrong_0 : List UInt8 := [42, 27, 28, 182, 0, 110, 28, 182, 0, 228, 172]
abbrev dktX1_wrong_0 : List UInt8 := dkwX1_wrong_0 ++ []
theorem dksX1_wrong_0 : cX1_wrong.data.toList.drop 0 = dktX1_wrong_0 := by decide +kernel
theorem dX1_wrong_0 : decode cX1_wrong 0 = .ok (.aload_n 0, 1) := dk_42 (dk_at dksX1_wrong_0 0 rfl rfl)
theorem dX1_wrong_1 : decode cX1_wrong 1 = .ok (.iload_n 1, 1) := dk_27 (dk_at dksX1_wrong_0 1 rfl rfl)
theorem dX1_wrong_2 : decode cX1_wrong 2 = .ok (.iload_n 2, 1) := dk_28 (dk_at dksX1_wrong_0 2 rfl rfl)
theorem dX1_wrong_3 : decode cX1_wrong 3 = .ok (.invokevirtual 110, 3) := dk_182 0 110 (dk_at dksX1_wrong_0 3 rfl rfl)
theorem dX1_wrong_6 : decode cX1_wrong 6 = .ok (.iload_n 2, 1) := dk_28 (dk_at dksX1_wrong_0 6 rfl rfl)
theorem dX1_wrong_7 : decode cX1_wrong 7 = .ok (.invokevirtual 228, 3) := dk_182 0 228 (dk_at dksX1_wrong_0 7 rfl rfl)
theorem dX1_wrong_10 : decode cX1_wrong 10 = .ok (.ireturn, 1) := dk_172 (dk_at dksX1_wrong_0 10 rfl rfl)
abbrev cX1_believed : ByteArray := prog_1_method_41_code
def yX1_believed : MethodName := ⟨RX1, "believed", "(II)I"⟩
def dkwX1_believed_0 : List UInt8 := [42, 27, 28, 182, 0, 242, 28, 182, 1, 8, 172]
abbrev dktX1_believed_0 : List UInt8 := dkwX1_believed_0 ++ []
theorem dksX1_believed_0 : cX1_believed.data.toList.drop 0 = dktX1_believed_0 := by decide +kernel
theorem dX1_believed_0 : decode cX1_believed 0 = .ok (.aload_n 0, 1) := dk_42 (dk_at dksX1_believed_0 0 rfl rfl)
theorem dX1_believed_1 : decode cX1_believed 1 = .ok (.iload_n 1, 1) := dk_27 (dk_at dksX1_believed_0 1 rfl rfl)
theorem dX1_believed_2 : decode cX1_believed 2 = .ok (.iload_n 2, 1) := dk_28 (dk_at dksX1_believed_0 2 rfl rfl)
theorem dX1_believed_3 : decode cX1_believed 3 = .ok (.invokevirtual 242, 3) := dk_182 0 242 (dk_at dksX1_believed_0 3 rfl rfl)
theorem dX1_believed_6 : decode cX1_believed 6 = .ok (.iload_n 2, 1) := dk_28 (dk_at dksX1_believed_0 6 rfl rfl)
theorem dX1_believed_7 : decode cX1_believed 7 = .ok (.invokevirtual 264, 3) := dk_182 1 8 (dk_at dksX1_believed_0 7 rfl rfl)
theorem dX1_believed_10 : decode cX1_believed 10 = .ok (.ireturn, 1) := dk_172 (dk_at dksX1_believed_0 10 rfl rfl)
abbrev cX1_right : ByteArray := prog_1_method_42_code
def yX1_right : MethodName := ⟨RX1, "right", "(I)I"⟩
def dkwX1_right_0 : List UInt8 := [42, 27, 182, 0, 102, 182, 1, 11, 172]
abbrev dktX1_right_0 : List UInt8 := dkwX1_right_0 ++ []
theorem dksX1_right_0 : cX1_right.data.toList.drop 0 = dktX1_right_0 := by decide +kernel
theorem dX1_right_0 : decode cX1_right 0 = .ok (.aload_n 0, 1) := dk_42 (dk_at dksX1_right_0 0 rfl rfl)
theorem dX1_right_1 : decode cX1_right 1 = .ok (.iload_n 1, 1) := dk_27 (dk_at dksX1_right_0 1 rfl rfl)
theorem dX1_right_2 : decode cX1_right 2 = .ok (.invokevirtual 102, 3) := dk_182 0 102 (dk_at dksX1_right_0 2 rfl rfl)
theorem dX1_right_5 : decode cX1_right 5 = .ok (.invokevirtual 267, 3) := dk_182 1 11 (dk_at dksX1_right_0 5 rfl rfl)
theorem dX1_right_8 : decode cX1_right 8 = .ok (.ireturn, 1) := dk_172 (dk_at dksX1_right_0 8 rfl rfl)
abbrev cX1_liar : ByteArray := prog_1_method_43_code
def yX1_liar : MethodName := ⟨RX1, "liar", "(I)I"⟩
def dkwX1_liar_0 : List UInt8 := [42, 27, 182, 0, 102, 182, 1, 14, 172]
abbrev dktX1_liar_0 : List UInt8 := dkwX1_liar_0 ++ []
theorem dksX1_liar_0 : cX1_liar.data.toList.drop 0 = dktX1_liar_0 := by decide +kernel
theorem dX1_liar_0 : decode cX1_liar 0 = .ok (.aload_n 0, 1) := dk_42 (dk_at dksX1_liar_0 0 rfl rfl)
theorem dX1_liar_1 : decode cX1_liar 1 = .ok (.iload_n 1, 1) := dk_27 (dk_at dksX1_liar_0 1 rfl rfl)
theorem dX1_liar_2 : decode cX1_liar 2 = .ok (.invokevirtual 102, 3) := dk_182 0 102 (dk_at dksX1_liar_0 2 rfl rfl)
theorem dX1_liar_5 : decode cX1_liar 5 = .ok (.invokevirtual 270, 3) := dk_182 1 14 (dk_at dksX1_liar_0 5 rfl rfl)
theorem dX1_liar_8 : decode cX1_liar 8 = .ok (.ireturn, 1) := dk_172 (dk_at dksX1_liar_0 8 rfl rfl)
abbrev cX1_firstWrong : ByteArray := prog_1_method_44_code
def yX1_firstWrong : MethodName := ⟨RX1, "firstWrong", "(I)I"⟩
def dkwX1_firstWrong_0 : List UInt8 := [42, 27, 182, 0, 102, 182, 1, 17, 172]
abbrev dktX1_firstWrong_0 : List UInt8 := dkwX1_firstWrong_0 ++ []
theorem dksX1_firstWrong_0 : cX1_firstWrong.data.toList.drop 0 = dktX1_firstWrong_0 := by decide +kernel
theorem dX1_firstWrong_0 : decode cX1_firstWrong 0 = .ok (.aload_n 0, 1) := dk_42 (dk_at dksX1_firstWrong_0 0 rfl rfl)
theorem dX1_firstWrong_1 : decode cX1_firstWrong 1 = .ok (.iload_n 1, 1) := dk_27 (dk_at dksX1_firstWrong_0 1 rfl rfl)
theorem dX1_firstWrong_2 : decode cX1_firstWrong 2 = .ok (.invokevirtual 102, 3) := dk_182 0 102 (dk_at dksX1_firstWrong_0 2 rfl rfl)
theorem dX1_firstWrong_5 : decode cX1_firstWrong 5 = .ok (.invokevirtual 273, 3) := dk_182 1 17 (dk_at dksX1_firstWrong_0 5 rfl rfl)
theorem dX1_firstWrong_8 : decode cX1_firstWrong 8 = .ok (.ireturn, 1) := dk_172 (dk_at dksX1_firstWrong_0 8 rfl rfl)
abbrev cX1_doubtful : ByteArray := prog_1_method_45_code
def yX1_doubtful : MethodName := ⟨RX1, "doubtful", "(I)I"⟩
def dkwX1_doubtful_0 : List UInt8 := [42, 27, 182, 0, 102, 182, 1, 20, 172]
abbrev dktX1_doubtful_0 : List UInt8 := dkwX1_doubtful_0 ++ []
theorem dksX1_doubtful_0 : cX1_doubtful.data.toList.drop 0 = dktX1_doubtful_0 := by decide +kernel
theorem dX1_doubtful_0 : decode cX1_doubtful 0 = .ok (.aload_n 0, 1) := dk_42 (dk_at dksX1_doubtful_0 0 rfl rfl)
theorem dX1_doubtful_1 : decode cX1_doubtful 1 = .ok (.iload_n 1, 1) := dk_27 (dk_at dksX1_doubtful_0 1 rfl rfl)
theorem dX1_doubtful_2 : decode cX1_doubtful 2 = .ok (.invokevirtual 102, 3) := dk_182 0 102 (dk_at dksX1_doubtful_0 2 rfl rfl)
theorem dX1_doubtful_5 : decode cX1_doubtful 5 = .ok (.invokevirtual 276, 3) := dk_182 1 20 (dk_at dksX1_doubtful_0 5 rfl rfl)
theorem dX1_doubtful_8 : decode cX1_doubtful 8 = .ok (.ireturn, 1) := dk_172 (dk_at dksX1_doubtful_0 8 rfl rfl)
abbrev cX1_agreeing : ByteArray := prog_1_method_46_code
def yX1_agreeing : MethodName := ⟨RX1, "agreeing", "(I)I"⟩
def dkwX1_agreeing_0 : List UInt8 := [42, 27, 182, 0, 102, 182, 1, 23, 172]
abbrev dktX1_agreeing_0 : List UInt8 := dkwX1_agreeing_0 ++ []
theorem dksX1_agreeing_0 : cX1_agreeing.data.toList.drop 0 = dktX1_agreeing_0 := by decide +kernel
theorem dX1_agreeing_0 : decode cX1_agreeing 0 = .ok (.aload_n 0, 1) := dk_42 (dk_at dksX1_agreeing_0 0 rfl rfl)
theorem dX1_agreeing_1 : decode cX1_agreeing 1 = .ok (.iload_n 1, 1) := dk_27 (dk_at dksX1_agreeing_0 1 rfl rfl)
theorem dX1_agreeing_2 : decode cX1_agreeing 2 = .ok (.invokevirtual 102, 3) := dk_182 0 102 (dk_at dksX1_agreeing_0 2 rfl rfl)
theorem dX1_agreeing_5 : decode cX1_agreeing 5 = .ok (.invokevirtual 279, 3) := dk_182 1 23 (dk_at dksX1_agreeing_0 5 rfl rfl)
theorem dX1_agreeing_8 : decode cX1_agreeing 8 = .ok (.ireturn, 1) := dk_172 (dk_at dksX1_agreeing_0 8 rfl rfl)
abbrev cX1_oldest : ByteArray := prog_1_method_47_code
def yX1_oldest : MethodName := ⟨RX1, "oldest", "()I"⟩
def dkwX1_oldest_2 : List UInt8 := [28, 182, 0, 98, 180, 0, 234, 162, 0, 5, 29, 61, 132, 3, 1, 167, 255, 202, 28, 172]
abbrev dktX1_oldest_2 : List UInt8 := dkwX1_oldest_2 ++ []
def dkwX1_oldest_1 : List UInt8 := [182, 0, 98, 180, 0, 237, 2, 160, 0, 29, 28, 2, 159, 0, 22, 43, 29, 182, 0, 98, 180, 0, 234, 43]
abbrev dktX1_oldest_1 : List UInt8 := dkwX1_oldest_1 ++ dktX1_oldest_2
def dkwX1_oldest_0 : List UInt8 := [42, 182, 0, 72, 76, 2, 61, 3, 62, 29, 43, 180, 0, 94, 185, 0, 3, 1, 0, 162, 0, 47, 43, 29]
abbrev dktX1_oldest_0 : List UInt8 := dkwX1_oldest_0 ++ dktX1_oldest_1
theorem dksX1_oldest_0 : cX1_oldest.data.toList.drop 0 = dktX1_oldest_0 := by decide +kernel
theorem dksX1_oldest_1 : cX1_oldest.data.toList.drop 24 = dktX1_oldest_1 := dk_seg dksX1_oldest_0 24 rfl rfl
theorem dksX1_oldest_2 : cX1_oldest.data.toList.drop 48 = dktX1_oldest_2 := dk_seg dksX1_oldest_1 24 rfl rfl
theorem dX1_oldest_0 : decode cX1_oldest 0 = .ok (.aload_n 0, 1) := dk_42 (dk_at dksX1_oldest_0 0 rfl rfl)
theorem dX1_oldest_1 : decode cX1_oldest 1 = .ok (.invokevirtual 72, 3) := dk_182 0 72 (dk_at dksX1_oldest_0 1 rfl rfl)
theorem dX1_oldest_4 : decode cX1_oldest 4 = .ok (.astore_n 1, 1) := dk_76 (dk_at dksX1_oldest_0 4 rfl rfl)
theorem dX1_oldest_5 : decode cX1_oldest 5 = .ok (.iconst (-1), 1) := dk_2 (dk_at dksX1_oldest_0 5 rfl rfl)
theorem dX1_oldest_6 : decode cX1_oldest 6 = .ok (.istore_n 2, 1) := dk_61 (dk_at dksX1_oldest_0 6 rfl rfl)
theorem dX1_oldest_7 : decode cX1_oldest 7 = .ok (.iconst 0, 1) := dk_3 (dk_at dksX1_oldest_0 7 rfl rfl)
theorem dX1_oldest_8 : decode cX1_oldest 8 = .ok (.istore_n 3, 1) := dk_62 (dk_at dksX1_oldest_0 8 rfl rfl)
theorem dX1_oldest_9 : decode cX1_oldest 9 = .ok (.iload_n 3, 1) := dk_29 (dk_at dksX1_oldest_0 9 rfl rfl)
theorem dX1_oldest_10 : decode cX1_oldest 10 = .ok (.aload_n 1, 1) := dk_43 (dk_at dksX1_oldest_0 10 rfl rfl)
theorem dX1_oldest_11 : decode cX1_oldest 11 = .ok (.getfield 94, 3) := dk_180 0 94 (dk_at dksX1_oldest_0 11 rfl rfl)
theorem dX1_oldest_14 : decode cX1_oldest 14 = .ok (.invokeinterface 3 1, 5) := by decide +kernel
theorem dX1_oldest_19 : decode cX1_oldest 19 = .ok (.if_icmp .ge 47, 3) := dk_162 0 47 (dk_at dksX1_oldest_0 19 rfl rfl)
theorem dX1_oldest_22 : decode cX1_oldest 22 = .ok (.aload_n 1, 1) := dk_43 (dk_at dksX1_oldest_0 22 rfl rfl)
theorem dX1_oldest_23 : decode cX1_oldest 23 = .ok (.iload_n 3, 1) := dk_29 (dk_at dksX1_oldest_0 23 rfl rfl)
theorem dX1_oldest_24 : decode cX1_oldest 24 = .ok (.invokevirtual 98, 3) := dk_182 0 98 (dk_at dksX1_oldest_1 0 rfl rfl)
theorem dX1_oldest_27 : decode cX1_oldest 27 = .ok (.getfield 237, 3) := dk_180 0 237 (dk_at dksX1_oldest_1 3 rfl rfl)
theorem dX1_oldest_30 : decode cX1_oldest 30 = .ok (.iconst (-1), 1) := dk_2 (dk_at dksX1_oldest_1 6 rfl rfl)
theorem dX1_oldest_31 : decode cX1_oldest 31 = .ok (.if_icmp .ne 29, 3) := dk_160 0 29 (dk_at dksX1_oldest_1 7 rfl rfl)
theorem dX1_oldest_34 : decode cX1_oldest 34 = .ok (.iload_n 2, 1) := dk_28 (dk_at dksX1_oldest_1 10 rfl rfl)
theorem dX1_oldest_35 : decode cX1_oldest 35 = .ok (.iconst (-1), 1) := dk_2 (dk_at dksX1_oldest_1 11 rfl rfl)
theorem dX1_oldest_36 : decode cX1_oldest 36 = .ok (.if_icmp .eq 22, 3) := dk_159 0 22 (dk_at dksX1_oldest_1 12 rfl rfl)
theorem dX1_oldest_39 : decode cX1_oldest 39 = .ok (.aload_n 1, 1) := dk_43 (dk_at dksX1_oldest_1 15 rfl rfl)
theorem dX1_oldest_40 : decode cX1_oldest 40 = .ok (.iload_n 3, 1) := dk_29 (dk_at dksX1_oldest_1 16 rfl rfl)
theorem dX1_oldest_41 : decode cX1_oldest 41 = .ok (.invokevirtual 98, 3) := dk_182 0 98 (dk_at dksX1_oldest_1 17 rfl rfl)
theorem dX1_oldest_44 : decode cX1_oldest 44 = .ok (.getfield 234, 3) := dk_180 0 234 (dk_at dksX1_oldest_1 20 rfl rfl)
theorem dX1_oldest_47 : decode cX1_oldest 47 = .ok (.aload_n 1, 1) := dk_43 (dk_at dksX1_oldest_1 23 rfl rfl)
theorem dX1_oldest_48 : decode cX1_oldest 48 = .ok (.iload_n 2, 1) := dk_28 (dk_at dksX1_oldest_2 0 rfl rfl)
theorem dX1_oldest_49 : decode cX1_oldest 49 = .ok (.invokevirtual 98, 3) := dk_182 0 98 (dk_at dksX1_oldest_2 1 rfl rfl)
theorem dX1_oldest_52 : decode cX1_oldest 52 = .ok (.getfield 234, 3) := dk_180 0 234 (dk_at dksX1_oldest_2 4 rfl rfl)
theorem dX1_oldest_55 : decode cX1_oldest 55 = .ok (.if_icmp .ge 5, 3) := dk_162 0 5 (dk_at dksX1_oldest_2 7 rfl rfl)
theorem dX1_oldest_58 : decode cX1_oldest 58 = .ok (.iload_n 3, 1) := dk_29 (dk_at dksX1_oldest_2 10 rfl rfl)
theorem dX1_oldest_59 : decode cX1_oldest 59 = .ok (.istore_n 2, 1) := dk_61 (dk_at dksX1_oldest_2 11 rfl rfl)
theorem dX1_oldest_60 : decode cX1_oldest 60 = .ok (.iinc 3 1, 3) := dk_132 3 1 (dk_at dksX1_oldest_2 12 rfl rfl)
theorem dX1_oldest_63 : decode cX1_oldest 63 = .ok (.goto (-54), 3) := dk_167 255 202 (dk_at dksX1_oldest_2 15 rfl rfl)
theorem dX1_oldest_66 : decode cX1_oldest 66 = .ok (.iload_n 2, 1) := dk_28 (dk_at dksX1_oldest_2 18 rfl rfl)
theorem dX1_oldest_67 : decode cX1_oldest 67 = .ok (.ireturn, 1) := dk_172 (dk_at dksX1_oldest_2 19 rfl rfl)
abbrev cX1_next : ByteArray := prog_1_method_48_code
def yX1_next : MethodName := ⟨RX1, "next", "(I)I"⟩
def dkwX1_next_0 : List UInt8 := [42, 27, 182, 0, 102, 42, 180, 0, 64, 180, 0, 76, 42, 180, 0, 64, 180, 0, 158, 182, 1, 26, 172]
abbrev dktX1_next_0 : List UInt8 := dkwX1_next_0 ++ []
theorem dksX1_next_0 : cX1_next.data.toList.drop 0 = dktX1_next_0 := by decide +kernel
theorem dX1_next_0 : decode cX1_next 0 = .ok (.aload_n 0, 1) := dk_42 (dk_at dksX1_next_0 0 rfl rfl)
theorem dX1_next_1 : decode cX1_next 1 = .ok (.iload_n 1, 1) := dk_27 (dk_at dksX1_next_0 1 rfl rfl)
theorem dX1_next_2 : decode cX1_next 2 = .ok (.invokevirtual 102, 3) := dk_182 0 102 (dk_at dksX1_next_0 2 rfl rfl)
theorem dX1_next_5 : decode cX1_next 5 = .ok (.aload_n 0, 1) := dk_42 (dk_at dksX1_next_0 5 rfl rfl)
theorem dX1_next_6 : decode cX1_next 6 = .ok (.getfield 64, 3) := dk_180 0 64 (dk_at dksX1_next_0 6 rfl rfl)
theorem dX1_next_9 : decode cX1_next 9 = .ok (.getfield 76, 3) := dk_180 0 76 (dk_at dksX1_next_0 9 rfl rfl)
theorem dX1_next_12 : decode cX1_next 12 = .ok (.aload_n 0, 1) := dk_42 (dk_at dksX1_next_0 12 rfl rfl)
theorem dX1_next_13 : decode cX1_next 13 = .ok (.getfield 64, 3) := dk_180 0 64 (dk_at dksX1_next_0 13 rfl rfl)
theorem dX1_next_16 : decode cX1_next 16 = .ok (.getfield 158, 3) := dk_180 0 158 (dk_at dksX1_next_0 16 rfl rfl)
theorem dX1_next_19 : decode cX1_next 19 = .ok (.invokevirtual 282, 3) := dk_182 1 26 (dk_at dksX1_next_0 19 rfl rfl)
theorem dX1_next_22 : decode cX1_next 22 = .ok (.ireturn, 1) := dk_172 (dk_at dksX1_next_0 22 rfl rfl)
abbrev cX1_gap : ByteArray := prog_1_method_49_code
def yX1_gap : MethodName := ⟨RX1, "gap", "()I"⟩
def dkwX1_gap_0 : List UInt8 := [42, 182, 0, 72, 182, 1, 29, 172]
abbrev dktX1_gap_0 : List UInt8 := dkwX1_gap_0 ++ []
theorem dksX1_gap_0 : cX1_gap.data.toList.drop 0 = dktX1_gap_0 := by decide +kernel
theorem dX1_gap_0 : decode cX1_gap 0 = .ok (.aload_n 0, 1) := dk_42 (dk_at dksX1_gap_0 0 rfl rfl)
theorem dX1_gap_1 : decode cX1_gap 1 = .ok (.invokevirtual 72, 3) := dk_182 0 72 (dk_at dksX1_gap_0 1 rfl rfl)
theorem dX1_gap_4 : decode cX1_gap 4 = .ok (.invokevirtual 285, 3) := dk_182 1 29 (dk_at dksX1_gap_0 4 rfl rfl)
theorem dX1_gap_7 : decode cX1_gap 7 = .ok (.ireturn, 1) := dk_172 (dk_at dksX1_gap_0 7 rfl rfl)
abbrev cX1_logged : ByteArray := prog_1_method_50_code
def yX1_logged : MethodName := ⟨RX1, "logged", "(II)I"⟩
def dkwX1_logged_2 : List UInt8 := [27, 185, 0, 9, 2, 0, 192, 1, 43, 28, 182, 1, 45, 167, 0, 4, 2, 172]
abbrev dktX1_logged_2 : List UInt8 := dkwX1_logged_2 ++ []
def dkwX1_logged_1 : List UInt8 := [180, 1, 38, 185, 0, 3, 1, 0, 4, 100, 133, 184, 0, 54, 153, 0, 26, 45, 180, 1, 34, 180, 1, 38]
abbrev dktX1_logged_1 : List UInt8 := dkwX1_logged_1 ++ dktX1_logged_2
def dkwX1_logged_0 : List UInt8 := [42, 182, 0, 72, 78, 28, 133, 9, 20, 1, 32, 184, 0, 54, 184, 0, 116, 27, 133, 9, 45, 180, 1, 34]
abbrev dktX1_logged_0 : List UInt8 := dkwX1_logged_0 ++ dktX1_logged_1
theorem dksX1_logged_0 : cX1_logged.data.toList.drop 0 = dktX1_logged_0 := by decide +kernel
theorem dksX1_logged_1 : cX1_logged.data.toList.drop 24 = dktX1_logged_1 := dk_seg dksX1_logged_0 24 rfl rfl
theorem dksX1_logged_2 : cX1_logged.data.toList.drop 48 = dktX1_logged_2 := dk_seg dksX1_logged_1 24 rfl rfl
theorem dX1_logged_0 : decode cX1_logged 0 = .ok (.aload_n 0, 1) := dk_42 (dk_at dksX1_logged_0 0 rfl rfl)
theorem dX1_logged_1 : decode cX1_logged 1 = .ok (.invokevirtual 72, 3) := dk_182 0 72 (dk_at dksX1_logged_0 1 rfl rfl)
theorem dX1_logged_4 : decode cX1_logged 4 = .ok (.astore_n 3, 1) := dk_78 (dk_at dksX1_logged_0 4 rfl rfl)
theorem dX1_logged_5 : decode cX1_logged 5 = .ok (.iload_n 2, 1) := dk_28 (dk_at dksX1_logged_0 5 rfl rfl)
theorem dX1_logged_6 : decode cX1_logged 6 = .ok (.i2l, 1) := dk_133 (dk_at dksX1_logged_0 6 rfl rfl)
theorem dX1_logged_7 : decode cX1_logged 7 = .ok (.lconst 0, 1) := dk_9 (dk_at dksX1_logged_0 7 rfl rfl)
theorem dX1_logged_8 : decode cX1_logged 8 = .ok (.ldc2_w 288, 3) := dk_20 1 32 (dk_at dksX1_logged_0 8 rfl rfl)
theorem dX1_logged_11 : decode cX1_logged 11 = .ok (.invokestatic 54, 3) := dk_184 0 54 (dk_at dksX1_logged_0 11 rfl rfl)
theorem dX1_logged_14 : decode cX1_logged 14 = .ok (.invokestatic 116, 3) := dk_184 0 116 (dk_at dksX1_logged_0 14 rfl rfl)
theorem dX1_logged_17 : decode cX1_logged 17 = .ok (.iload_n 1, 1) := dk_27 (dk_at dksX1_logged_0 17 rfl rfl)
theorem dX1_logged_18 : decode cX1_logged 18 = .ok (.i2l, 1) := dk_133 (dk_at dksX1_logged_0 18 rfl rfl)
theorem dX1_logged_19 : decode cX1_logged 19 = .ok (.lconst 0, 1) := dk_9 (dk_at dksX1_logged_0 19 rfl rfl)
theorem dX1_logged_20 : decode cX1_logged 20 = .ok (.aload_n 3, 1) := dk_45 (dk_at dksX1_logged_0 20 rfl rfl)
theorem dX1_logged_21 : decode cX1_logged 21 = .ok (.getfield 290, 3) := dk_180 1 34 (dk_at dksX1_logged_0 21 rfl rfl)
theorem dX1_logged_24 : decode cX1_logged 24 = .ok (.getfield 294, 3) := dk_180 1 38 (dk_at dksX1_logged_1 0 rfl rfl)
theorem dX1_logged_27 : decode cX1_logged 27 = .ok (.invokeinterface 3 1, 5) := by decide +kernel
theorem dX1_logged_32 : decode cX1_logged 32 = .ok (.iconst 1, 1) := dk_4 (dk_at dksX1_logged_1 8 rfl rfl)
theorem dX1_logged_33 : decode cX1_logged 33 = .ok (.isub, 1) := dk_100 (dk_at dksX1_logged_1 9 rfl rfl)
theorem dX1_logged_34 : decode cX1_logged 34 = .ok (.i2l, 1) := dk_133 (dk_at dksX1_logged_1 10 rfl rfl)
theorem dX1_logged_35 : decode cX1_logged 35 = .ok (.invokestatic 54, 3) := dk_184 0 54 (dk_at dksX1_logged_1 11 rfl rfl)
theorem dX1_logged_38 : decode cX1_logged 38 = .ok (.ifCond .eq 26, 3) := dk_153 0 26 (dk_at dksX1_logged_1 14 rfl rfl)
theorem dX1_logged_41 : decode cX1_logged 41 = .ok (.aload_n 3, 1) := dk_45 (dk_at dksX1_logged_1 17 rfl rfl)
theorem dX1_logged_42 : decode cX1_logged 42 = .ok (.getfield 290, 3) := dk_180 1 34 (dk_at dksX1_logged_1 18 rfl rfl)
theorem dX1_logged_45 : decode cX1_logged 45 = .ok (.getfield 294, 3) := dk_180 1 38 (dk_at dksX1_logged_1 21 rfl rfl)
theorem dX1_logged_48 : decode cX1_logged 48 = .ok (.iload_n 1, 1) := dk_27 (dk_at dksX1_logged_2 0 rfl rfl)
theorem dX1_logged_49 : decode cX1_logged 49 = .ok (.invokeinterface 9 2, 5) := by decide +kernel
theorem dX1_logged_54 : decode cX1_logged 54 = .ok (.checkcast 299, 3) := dk_192 1 43 (dk_at dksX1_logged_2 6 rfl rfl)
theorem dX1_logged_57 : decode cX1_logged 57 = .ok (.iload_n 2, 1) := dk_28 (dk_at dksX1_logged_2 9 rfl rfl)
theorem dX1_logged_58 : decode cX1_logged 58 = .ok (.invokevirtual 301, 3) := dk_182 1 45 (dk_at dksX1_logged_2 10 rfl rfl)
theorem dX1_logged_61 : decode cX1_logged 61 = .ok (.goto 4, 3) := dk_167 0 4 (dk_at dksX1_logged_2 13 rfl rfl)
theorem dX1_logged_64 : decode cX1_logged 64 = .ok (.iconst (-1), 1) := dk_2 (dk_at dksX1_logged_2 16 rfl rfl)
theorem dX1_logged_65 : decode cX1_logged 65 = .ok (.ireturn, 1) := dk_172 (dk_at dksX1_logged_2 17 rfl rfl)
abbrev cX1_entries : ByteArray := prog_1_method_51_code
def yX1_entries : MethodName := ⟨RX1, "entries", "(I)I"⟩
def dkwX1_entries_3 : List UInt8 := [3, 184, 0, 197, 96, 62, 167, 255, 214, 29, 172]
abbrev dktX1_entries_3 : List UInt8 := dkwX1_entries_3 ++ []
def dkwX1_entries_2 : List UInt8 := [185, 1, 58, 1, 0, 192, 1, 43, 58, 5, 29, 25, 5, 180, 1, 60, 27, 160, 0, 7, 4, 167, 0, 4]
abbrev dktX1_entries_2 : List UInt8 := dkwX1_entries_2 ++ dktX1_entries_3
def dkwX1_entries_1 : List UInt8 := [180, 1, 38, 185, 1, 48, 1, 0, 58, 4, 25, 4, 185, 1, 52, 1, 0, 153, 0, 38, 25, 4]
abbrev dktX1_entries_1 : List UInt8 := dkwX1_entries_1 ++ dktX1_entries_2
def dkwX1_entries_0 : List UInt8 := [42, 182, 0, 72, 77, 27, 133, 9, 20, 1, 32, 184, 0, 54, 184, 0, 116, 3, 62, 44, 180, 1, 34]
abbrev dktX1_entries_0 : List UInt8 := dkwX1_entries_0 ++ dktX1_entries_1
theorem dksX1_entries_0 : cX1_entries.data.toList.drop 0 = dktX1_entries_0 := by decide +kernel
theorem dksX1_entries_1 : cX1_entries.data.toList.drop 23 = dktX1_entries_1 := dk_seg dksX1_entries_0 23 rfl rfl
theorem dksX1_entries_2 : cX1_entries.data.toList.drop 45 = dktX1_entries_2 := dk_seg dksX1_entries_1 22 rfl rfl
theorem dksX1_entries_3 : cX1_entries.data.toList.drop 69 = dktX1_entries_3 := dk_seg dksX1_entries_2 24 rfl rfl
theorem dX1_entries_0 : decode cX1_entries 0 = .ok (.aload_n 0, 1) := dk_42 (dk_at dksX1_entries_0 0 rfl rfl)
theorem dX1_entries_1 : decode cX1_entries 1 = .ok (.invokevirtual 72, 3) := dk_182 0 72 (dk_at dksX1_entries_0 1 rfl rfl)
theorem dX1_entries_4 : decode cX1_entries 4 = .ok (.astore_n 2, 1) := dk_77 (dk_at dksX1_entries_0 4 rfl rfl)
theorem dX1_entries_5 : decode cX1_entries 5 = .ok (.iload_n 1, 1) := dk_27 (dk_at dksX1_entries_0 5 rfl rfl)
theorem dX1_entries_6 : decode cX1_entries 6 = .ok (.i2l, 1) := dk_133 (dk_at dksX1_entries_0 6 rfl rfl)
theorem dX1_entries_7 : decode cX1_entries 7 = .ok (.lconst 0, 1) := dk_9 (dk_at dksX1_entries_0 7 rfl rfl)
theorem dX1_entries_8 : decode cX1_entries 8 = .ok (.ldc2_w 288, 3) := dk_20 1 32 (dk_at dksX1_entries_0 8 rfl rfl)
theorem dX1_entries_11 : decode cX1_entries 11 = .ok (.invokestatic 54, 3) := dk_184 0 54 (dk_at dksX1_entries_0 11 rfl rfl)
theorem dX1_entries_14 : decode cX1_entries 14 = .ok (.invokestatic 116, 3) := dk_184 0 116 (dk_at dksX1_entries_0 14 rfl rfl)
theorem dX1_entries_17 : decode cX1_entries 17 = .ok (.iconst 0, 1) := dk_3 (dk_at dksX1_entries_0 17 rfl rfl)
theorem dX1_entries_18 : decode cX1_entries 18 = .ok (.istore_n 3, 1) := dk_62 (dk_at dksX1_entries_0 18 rfl rfl)
theorem dX1_entries_19 : decode cX1_entries 19 = .ok (.aload_n 2, 1) := dk_44 (dk_at dksX1_entries_0 19 rfl rfl)
theorem dX1_entries_20 : decode cX1_entries 20 = .ok (.getfield 290, 3) := dk_180 1 34 (dk_at dksX1_entries_0 20 rfl rfl)
theorem dX1_entries_23 : decode cX1_entries 23 = .ok (.getfield 294, 3) := dk_180 1 38 (dk_at dksX1_entries_1 0 rfl rfl)
theorem dX1_entries_26 : decode cX1_entries 26 = .ok (.invokeinterface 304 1, 5) := by decide +kernel
theorem dX1_entries_31 : decode cX1_entries 31 = .ok (.astore 4, 2) := dk_58 4 (dk_at dksX1_entries_1 8 rfl rfl)
theorem dX1_entries_33 : decode cX1_entries 33 = .ok (.aload 4, 2) := dk_25 4 (dk_at dksX1_entries_1 10 rfl rfl)
theorem dX1_entries_35 : decode cX1_entries 35 = .ok (.invokeinterface 308 1, 5) := by decide +kernel
theorem dX1_entries_40 : decode cX1_entries 40 = .ok (.ifCond .eq 38, 3) := dk_153 0 38 (dk_at dksX1_entries_1 17 rfl rfl)
theorem dX1_entries_43 : decode cX1_entries 43 = .ok (.aload 4, 2) := dk_25 4 (dk_at dksX1_entries_1 20 rfl rfl)
theorem dX1_entries_45 : decode cX1_entries 45 = .ok (.invokeinterface 314 1, 5) := by decide +kernel
theorem dX1_entries_50 : decode cX1_entries 50 = .ok (.checkcast 299, 3) := dk_192 1 43 (dk_at dksX1_entries_2 5 rfl rfl)
theorem dX1_entries_53 : decode cX1_entries 53 = .ok (.astore 5, 2) := dk_58 5 (dk_at dksX1_entries_2 8 rfl rfl)
theorem dX1_entries_55 : decode cX1_entries 55 = .ok (.iload_n 3, 1) := dk_29 (dk_at dksX1_entries_2 10 rfl rfl)
theorem dX1_entries_56 : decode cX1_entries 56 = .ok (.aload 5, 2) := dk_25 5 (dk_at dksX1_entries_2 11 rfl rfl)
theorem dX1_entries_58 : decode cX1_entries 58 = .ok (.getfield 316, 3) := dk_180 1 60 (dk_at dksX1_entries_2 13 rfl rfl)
theorem dX1_entries_61 : decode cX1_entries 61 = .ok (.iload_n 1, 1) := dk_27 (dk_at dksX1_entries_2 16 rfl rfl)
theorem dX1_entries_62 : decode cX1_entries 62 = .ok (.if_icmp .ne 7, 3) := dk_160 0 7 (dk_at dksX1_entries_2 17 rfl rfl)
theorem dX1_entries_65 : decode cX1_entries 65 = .ok (.iconst 1, 1) := dk_4 (dk_at dksX1_entries_2 20 rfl rfl)
theorem dX1_entries_66 : decode cX1_entries 66 = .ok (.goto 4, 3) := dk_167 0 4 (dk_at dksX1_entries_2 21 rfl rfl)
theorem dX1_entries_69 : decode cX1_entries 69 = .ok (.iconst 0, 1) := dk_3 (dk_at dksX1_entries_3 0 rfl rfl)
theorem dX1_entries_70 : decode cX1_entries 70 = .ok (.invokestatic 197, 3) := dk_184 0 197 (dk_at dksX1_entries_3 1 rfl rfl)
theorem dX1_entries_73 : decode cX1_entries 73 = .ok (.iadd, 1) := dk_96 (dk_at dksX1_entries_3 4 rfl rfl)
theorem dX1_entries_74 : decode cX1_entries 74 = .ok (.istore_n 3, 1) := dk_62 (dk_at dksX1_entries_3 5 rfl rfl)
theorem dX1_entries_75 : decode cX1_entries 75 = .ok (.goto (-42), 3) := dk_167 255 214 (dk_at dksX1_entries_3 6 rfl rfl)
theorem dX1_entries_78 : decode cX1_entries 78 = .ok (.iload_n 3, 1) := dk_29 (dk_at dksX1_entries_3 9 rfl rfl)
theorem dX1_entries_79 : decode cX1_entries 79 = .ok (.ireturn, 1) := dk_172 (dk_at dksX1_entries_3 10 rfl rfl)
abbrev cX1_arrivesIn : ByteArray := prog_1_method_52_code
def yX1_arrivesIn : MethodName := ⟨RX1, "arrivesIn", "(I)I"⟩
def dkwX1_arrivesIn_1 : List UInt8 := [182, 1, 63, 180, 0, 237, 42, 180, 0, 64, 180, 0, 161, 100, 4, 96, 172]
abbrev dktX1_arrivesIn_1 : List UInt8 := dkwX1_arrivesIn_1 ++ []
def dkwX1_arrivesIn_0 : List UInt8 := [42, 27, 182, 0, 102, 77, 44, 180, 0, 237, 2, 159, 0, 7, 3, 167, 0, 24, 42, 180, 0, 64, 27]
abbrev dktX1_arrivesIn_0 : List UInt8 := dkwX1_arrivesIn_0 ++ dktX1_arrivesIn_1
theorem dksX1_arrivesIn_0 : cX1_arrivesIn.data.toList.drop 0 = dktX1_arrivesIn_0 := by decide +kernel
theorem dksX1_arrivesIn_1 : cX1_arrivesIn.data.toList.drop 23 = dktX1_arrivesIn_1 := dk_seg dksX1_arrivesIn_0 23 rfl rfl
theorem dX1_arrivesIn_0 : decode cX1_arrivesIn 0 = .ok (.aload_n 0, 1) := dk_42 (dk_at dksX1_arrivesIn_0 0 rfl rfl)
theorem dX1_arrivesIn_1 : decode cX1_arrivesIn 1 = .ok (.iload_n 1, 1) := dk_27 (dk_at dksX1_arrivesIn_0 1 rfl rfl)
theorem dX1_arrivesIn_2 : decode cX1_arrivesIn 2 = .ok (.invokevirtual 102, 3) := dk_182 0 102 (dk_at dksX1_arrivesIn_0 2 rfl rfl)
theorem dX1_arrivesIn_5 : decode cX1_arrivesIn 5 = .ok (.astore_n 2, 1) := dk_77 (dk_at dksX1_arrivesIn_0 5 rfl rfl)
theorem dX1_arrivesIn_6 : decode cX1_arrivesIn 6 = .ok (.aload_n 2, 1) := dk_44 (dk_at dksX1_arrivesIn_0 6 rfl rfl)
theorem dX1_arrivesIn_7 : decode cX1_arrivesIn 7 = .ok (.getfield 237, 3) := dk_180 0 237 (dk_at dksX1_arrivesIn_0 7 rfl rfl)
theorem dX1_arrivesIn_10 : decode cX1_arrivesIn 10 = .ok (.iconst (-1), 1) := dk_2 (dk_at dksX1_arrivesIn_0 10 rfl rfl)
theorem dX1_arrivesIn_11 : decode cX1_arrivesIn 11 = .ok (.if_icmp .eq 7, 3) := dk_159 0 7 (dk_at dksX1_arrivesIn_0 11 rfl rfl)
theorem dX1_arrivesIn_14 : decode cX1_arrivesIn 14 = .ok (.iconst 0, 1) := dk_3 (dk_at dksX1_arrivesIn_0 14 rfl rfl)
theorem dX1_arrivesIn_15 : decode cX1_arrivesIn 15 = .ok (.goto 24, 3) := dk_167 0 24 (dk_at dksX1_arrivesIn_0 15 rfl rfl)
theorem dX1_arrivesIn_18 : decode cX1_arrivesIn 18 = .ok (.aload_n 0, 1) := dk_42 (dk_at dksX1_arrivesIn_0 18 rfl rfl)
theorem dX1_arrivesIn_19 : decode cX1_arrivesIn 19 = .ok (.getfield 64, 3) := dk_180 0 64 (dk_at dksX1_arrivesIn_0 19 rfl rfl)
theorem dX1_arrivesIn_22 : decode cX1_arrivesIn 22 = .ok (.iload_n 1, 1) := dk_27 (dk_at dksX1_arrivesIn_0 22 rfl rfl)
theorem dX1_arrivesIn_23 : decode cX1_arrivesIn 23 = .ok (.invokevirtual 319, 3) := dk_182 1 63 (dk_at dksX1_arrivesIn_1 0 rfl rfl)
theorem dX1_arrivesIn_26 : decode cX1_arrivesIn 26 = .ok (.getfield 237, 3) := dk_180 0 237 (dk_at dksX1_arrivesIn_1 3 rfl rfl)
theorem dX1_arrivesIn_29 : decode cX1_arrivesIn 29 = .ok (.aload_n 0, 1) := dk_42 (dk_at dksX1_arrivesIn_1 6 rfl rfl)
theorem dX1_arrivesIn_30 : decode cX1_arrivesIn 30 = .ok (.getfield 64, 3) := dk_180 0 64 (dk_at dksX1_arrivesIn_1 7 rfl rfl)
theorem dX1_arrivesIn_33 : decode cX1_arrivesIn 33 = .ok (.getfield 161, 3) := dk_180 0 161 (dk_at dksX1_arrivesIn_1 10 rfl rfl)
theorem dX1_arrivesIn_36 : decode cX1_arrivesIn 36 = .ok (.isub, 1) := dk_100 (dk_at dksX1_arrivesIn_1 13 rfl rfl)
theorem dX1_arrivesIn_37 : decode cX1_arrivesIn 37 = .ok (.iconst 1, 1) := dk_4 (dk_at dksX1_arrivesIn_1 14 rfl rfl)
theorem dX1_arrivesIn_38 : decode cX1_arrivesIn 38 = .ok (.iadd, 1) := dk_96 (dk_at dksX1_arrivesIn_1 15 rfl rfl)
theorem dX1_arrivesIn_39 : decode cX1_arrivesIn 39 = .ok (.ireturn, 1) := dk_172 (dk_at dksX1_arrivesIn_1 16 rfl rfl)
abbrev cX1_rightThen : ByteArray := prog_1_method_53_code
def yX1_rightThen : MethodName := ⟨RX1, "rightThen", "(I)I"⟩
def dkwX1_rightThen_0 : List UInt8 := [42, 27, 182, 0, 102, 77, 42, 180, 0, 64, 27, 182, 1, 63, 182, 1, 11, 172]
abbrev dktX1_rightThen_0 : List UInt8 := dkwX1_rightThen_0 ++ []
theorem dksX1_rightThen_0 : cX1_rightThen.data.toList.drop 0 = dktX1_rightThen_0 := by decide +kernel
theorem dX1_rightThen_0 : decode cX1_rightThen 0 = .ok (.aload_n 0, 1) := dk_42 (dk_at dksX1_rightThen_0 0 rfl rfl)
theorem dX1_rightThen_1 : decode cX1_rightThen 1 = .ok (.iload_n 1, 1) := dk_27 (dk_at dksX1_rightThen_0 1 rfl rfl)
theorem dX1_rightThen_2 : decode cX1_rightThen 2 = .ok (.invokevirtual 102, 3) := dk_182 0 102 (dk_at dksX1_rightThen_0 2 rfl rfl)
theorem dX1_rightThen_5 : decode cX1_rightThen 5 = .ok (.astore_n 2, 1) := dk_77 (dk_at dksX1_rightThen_0 5 rfl rfl)
theorem dX1_rightThen_6 : decode cX1_rightThen 6 = .ok (.aload_n 0, 1) := dk_42 (dk_at dksX1_rightThen_0 6 rfl rfl)
theorem dX1_rightThen_7 : decode cX1_rightThen 7 = .ok (.getfield 64, 3) := dk_180 0 64 (dk_at dksX1_rightThen_0 7 rfl rfl)
theorem dX1_rightThen_10 : decode cX1_rightThen 10 = .ok (.iload_n 1, 1) := dk_27 (dk_at dksX1_rightThen_0 10 rfl rfl)
theorem dX1_rightThen_11 : decode cX1_rightThen 11 = .ok (.invokevirtual 319, 3) := dk_182 1 63 (dk_at dksX1_rightThen_0 11 rfl rfl)
theorem dX1_rightThen_14 : decode cX1_rightThen 14 = .ok (.invokevirtual 267, 3) := dk_182 1 11 (dk_at dksX1_rightThen_0 14 rfl rfl)
theorem dX1_rightThen_17 : decode cX1_rightThen 17 = .ok (.ireturn, 1) := dk_172 (dk_at dksX1_rightThen_0 17 rfl rfl)
abbrev cX1_believedThen : ByteArray := prog_1_method_54_code
def yX1_believedThen : MethodName := ⟨RX1, "believedThen", "(II)I"⟩
def dkwX1_believedThen_0 : List UInt8 := [42, 27, 28, 182, 0, 242, 78, 42, 180, 0, 64, 27, 182, 1, 63, 28, 182, 1, 8, 172]
abbrev dktX1_believedThen_0 : List UInt8 := dkwX1_believedThen_0 ++ []
theorem dksX1_believedThen_0 : cX1_believedThen.data.toList.drop 0 = dktX1_believedThen_0 := by decide +kernel
theorem dX1_believedThen_0 : decode cX1_believedThen 0 = .ok (.aload_n 0, 1) := dk_42 (dk_at dksX1_believedThen_0 0 rfl rfl)
theorem dX1_believedThen_1 : decode cX1_believedThen 1 = .ok (.iload_n 1, 1) := dk_27 (dk_at dksX1_believedThen_0 1 rfl rfl)
theorem dX1_believedThen_2 : decode cX1_believedThen 2 = .ok (.iload_n 2, 1) := dk_28 (dk_at dksX1_believedThen_0 2 rfl rfl)
theorem dX1_believedThen_3 : decode cX1_believedThen 3 = .ok (.invokevirtual 242, 3) := dk_182 0 242 (dk_at dksX1_believedThen_0 3 rfl rfl)
theorem dX1_believedThen_6 : decode cX1_believedThen 6 = .ok (.astore_n 3, 1) := dk_78 (dk_at dksX1_believedThen_0 6 rfl rfl)
theorem dX1_believedThen_7 : decode cX1_believedThen 7 = .ok (.aload_n 0, 1) := dk_42 (dk_at dksX1_believedThen_0 7 rfl rfl)
theorem dX1_believedThen_8 : decode cX1_believedThen 8 = .ok (.getfield 64, 3) := dk_180 0 64 (dk_at dksX1_believedThen_0 8 rfl rfl)
theorem dX1_believedThen_11 : decode cX1_believedThen 11 = .ok (.iload_n 1, 1) := dk_27 (dk_at dksX1_believedThen_0 11 rfl rfl)
theorem dX1_believedThen_12 : decode cX1_believedThen 12 = .ok (.invokevirtual 319, 3) := dk_182 1 63 (dk_at dksX1_believedThen_0 12 rfl rfl)
theorem dX1_believedThen_15 : decode cX1_believedThen 15 = .ok (.iload_n 2, 1) := dk_28 (dk_at dksX1_believedThen_0 15 rfl rfl)
theorem dX1_believedThen_16 : decode cX1_believedThen 16 = .ok (.invokevirtual 264, 3) := dk_182 1 8 (dk_at dksX1_believedThen_0 16 rfl rfl)
theorem dX1_believedThen_19 : decode cX1_believedThen 19 = .ok (.ireturn, 1) := dk_172 (dk_at dksX1_believedThen_0 19 rfl rfl)
abbrev cX1_copiesIn : ByteArray := prog_1_method_55_code
def yX1_copiesIn : MethodName := ⟨RX1, "copiesIn", "(II)I"⟩
def dkwX1_copiesIn_4 : List UInt8 := [180, 0, 170, 100, 167, 0, 19, 25, 4, 180, 0, 87, 180, 0, 173, 45, 180, 0, 87, 180, 0, 173, 100, 172]
abbrev dktX1_copiesIn_4 : List UInt8 := dkwX1_copiesIn_4 ++ []
def dkwX1_copiesIn_3 : List UInt8 := [180, 0, 167, 100, 167, 0, 43, 28, 4, 160, 0, 22, 25, 4, 180, 0, 87, 180, 0, 170, 45, 180, 0, 87]
abbrev dktX1_copiesIn_3 : List UInt8 := dkwX1_copiesIn_3 ++ dktX1_copiesIn_4
def dkwX1_copiesIn_2 : List UInt8 := [25, 4, 27, 182, 1, 70, 54, 5, 28, 154, 0, 22, 25, 4, 180, 0, 87, 180, 0, 167, 45, 180, 0, 87]
abbrev dktX1_copiesIn_2 : List UInt8 := dkwX1_copiesIn_2 ++ dktX1_copiesIn_3
def dkwX1_copiesIn_1 : List UInt8 := [184, 0, 54, 153, 0, 7, 4, 167, 0, 4, 3, 184, 0, 116, 187, 0, 38, 89, 45, 183, 0, 128, 58, 4]
abbrev dktX1_copiesIn_1 : List UInt8 := dkwX1_copiesIn_1 ++ dktX1_copiesIn_2
def dkwX1_copiesIn_0 : List UInt8 := [42, 182, 0, 72, 78, 27, 133, 9, 20, 1, 66, 184, 0, 54, 153, 0, 19, 28, 133, 9, 20, 1, 68]
abbrev dktX1_copiesIn_0 : List UInt8 := dkwX1_copiesIn_0 ++ dktX1_copiesIn_1
theorem dksX1_copiesIn_0 : cX1_copiesIn.data.toList.drop 0 = dktX1_copiesIn_0 := by decide +kernel
theorem dksX1_copiesIn_1 : cX1_copiesIn.data.toList.drop 23 = dktX1_copiesIn_1 := dk_seg dksX1_copiesIn_0 23 rfl rfl
theorem dksX1_copiesIn_2 : cX1_copiesIn.data.toList.drop 47 = dktX1_copiesIn_2 := dk_seg dksX1_copiesIn_1 24 rfl rfl
theorem dksX1_copiesIn_3 : cX1_copiesIn.data.toList.drop 71 = dktX1_copiesIn_3 := dk_seg dksX1_copiesIn_2 24 rfl rfl
theorem dksX1_copiesIn_4 : cX1_copiesIn.data.toList.drop 95 = dktX1_copiesIn_4 := dk_seg dksX1_copiesIn_3 24 rfl rfl
theorem dX1_copiesIn_0 : decode cX1_copiesIn 0 = .ok (.aload_n 0, 1) := dk_42 (dk_at dksX1_copiesIn_0 0 rfl rfl)
theorem dX1_copiesIn_1 : decode cX1_copiesIn 1 = .ok (.invokevirtual 72, 3) := dk_182 0 72 (dk_at dksX1_copiesIn_0 1 rfl rfl)
theorem dX1_copiesIn_4 : decode cX1_copiesIn 4 = .ok (.astore_n 3, 1) := dk_78 (dk_at dksX1_copiesIn_0 4 rfl rfl)
theorem dX1_copiesIn_5 : decode cX1_copiesIn 5 = .ok (.iload_n 1, 1) := dk_27 (dk_at dksX1_copiesIn_0 5 rfl rfl)
theorem dX1_copiesIn_6 : decode cX1_copiesIn 6 = .ok (.i2l, 1) := dk_133 (dk_at dksX1_copiesIn_0 6 rfl rfl)
theorem dX1_copiesIn_7 : decode cX1_copiesIn 7 = .ok (.lconst 0, 1) := dk_9 (dk_at dksX1_copiesIn_0 7 rfl rfl)
theorem dX1_copiesIn_8 : decode cX1_copiesIn 8 = .ok (.ldc2_w 322, 3) := dk_20 1 66 (dk_at dksX1_copiesIn_0 8 rfl rfl)
theorem dX1_copiesIn_11 : decode cX1_copiesIn 11 = .ok (.invokestatic 54, 3) := dk_184 0 54 (dk_at dksX1_copiesIn_0 11 rfl rfl)
theorem dX1_copiesIn_14 : decode cX1_copiesIn 14 = .ok (.ifCond .eq 19, 3) := dk_153 0 19 (dk_at dksX1_copiesIn_0 14 rfl rfl)
theorem dX1_copiesIn_17 : decode cX1_copiesIn 17 = .ok (.iload_n 2, 1) := dk_28 (dk_at dksX1_copiesIn_0 17 rfl rfl)
theorem dX1_copiesIn_18 : decode cX1_copiesIn 18 = .ok (.i2l, 1) := dk_133 (dk_at dksX1_copiesIn_0 18 rfl rfl)
theorem dX1_copiesIn_19 : decode cX1_copiesIn 19 = .ok (.lconst 0, 1) := dk_9 (dk_at dksX1_copiesIn_0 19 rfl rfl)
theorem dX1_copiesIn_20 : decode cX1_copiesIn 20 = .ok (.ldc2_w 324, 3) := dk_20 1 68 (dk_at dksX1_copiesIn_0 20 rfl rfl)
theorem dX1_copiesIn_23 : decode cX1_copiesIn 23 = .ok (.invokestatic 54, 3) := dk_184 0 54 (dk_at dksX1_copiesIn_1 0 rfl rfl)
theorem dX1_copiesIn_26 : decode cX1_copiesIn 26 = .ok (.ifCond .eq 7, 3) := dk_153 0 7 (dk_at dksX1_copiesIn_1 3 rfl rfl)
theorem dX1_copiesIn_29 : decode cX1_copiesIn 29 = .ok (.iconst 1, 1) := dk_4 (dk_at dksX1_copiesIn_1 6 rfl rfl)
theorem dX1_copiesIn_30 : decode cX1_copiesIn 30 = .ok (.goto 4, 3) := dk_167 0 4 (dk_at dksX1_copiesIn_1 7 rfl rfl)
theorem dX1_copiesIn_33 : decode cX1_copiesIn 33 = .ok (.iconst 0, 1) := dk_3 (dk_at dksX1_copiesIn_1 10 rfl rfl)
theorem dX1_copiesIn_34 : decode cX1_copiesIn 34 = .ok (.invokestatic 116, 3) := dk_184 0 116 (dk_at dksX1_copiesIn_1 11 rfl rfl)
theorem dX1_copiesIn_37 : decode cX1_copiesIn 37 = .ok (.new 38, 3) := dk_187 0 38 (dk_at dksX1_copiesIn_1 14 rfl rfl)
theorem dX1_copiesIn_40 : decode cX1_copiesIn 40 = .ok (.dup, 1) := dk_89 (dk_at dksX1_copiesIn_1 17 rfl rfl)
theorem dX1_copiesIn_41 : decode cX1_copiesIn 41 = .ok (.aload_n 3, 1) := dk_45 (dk_at dksX1_copiesIn_1 18 rfl rfl)
theorem dX1_copiesIn_42 : decode cX1_copiesIn 42 = .ok (.invokespecial 128, 3) := dk_183 0 128 (dk_at dksX1_copiesIn_1 19 rfl rfl)
theorem dX1_copiesIn_45 : decode cX1_copiesIn 45 = .ok (.astore 4, 2) := dk_58 4 (dk_at dksX1_copiesIn_1 22 rfl rfl)
theorem dX1_copiesIn_47 : decode cX1_copiesIn 47 = .ok (.aload 4, 2) := dk_25 4 (dk_at dksX1_copiesIn_2 0 rfl rfl)
theorem dX1_copiesIn_49 : decode cX1_copiesIn 49 = .ok (.iload_n 1, 1) := dk_27 (dk_at dksX1_copiesIn_2 2 rfl rfl)
theorem dX1_copiesIn_50 : decode cX1_copiesIn 50 = .ok (.invokevirtual 326, 3) := dk_182 1 70 (dk_at dksX1_copiesIn_2 3 rfl rfl)
theorem dX1_copiesIn_53 : decode cX1_copiesIn 53 = .ok (.istore 5, 2) := dk_54 5 (dk_at dksX1_copiesIn_2 6 rfl rfl)
theorem dX1_copiesIn_55 : decode cX1_copiesIn 55 = .ok (.iload_n 2, 1) := dk_28 (dk_at dksX1_copiesIn_2 8 rfl rfl)
theorem dX1_copiesIn_56 : decode cX1_copiesIn 56 = .ok (.ifCond .ne 22, 3) := dk_154 0 22 (dk_at dksX1_copiesIn_2 9 rfl rfl)
theorem dX1_copiesIn_59 : decode cX1_copiesIn 59 = .ok (.aload 4, 2) := dk_25 4 (dk_at dksX1_copiesIn_2 12 rfl rfl)
theorem dX1_copiesIn_61 : decode cX1_copiesIn 61 = .ok (.getfield 87, 3) := dk_180 0 87 (dk_at dksX1_copiesIn_2 14 rfl rfl)
theorem dX1_copiesIn_64 : decode cX1_copiesIn 64 = .ok (.getfield 167, 3) := dk_180 0 167 (dk_at dksX1_copiesIn_2 17 rfl rfl)
theorem dX1_copiesIn_67 : decode cX1_copiesIn 67 = .ok (.aload_n 3, 1) := dk_45 (dk_at dksX1_copiesIn_2 20 rfl rfl)
theorem dX1_copiesIn_68 : decode cX1_copiesIn 68 = .ok (.getfield 87, 3) := dk_180 0 87 (dk_at dksX1_copiesIn_2 21 rfl rfl)
theorem dX1_copiesIn_71 : decode cX1_copiesIn 71 = .ok (.getfield 167, 3) := dk_180 0 167 (dk_at dksX1_copiesIn_3 0 rfl rfl)
theorem dX1_copiesIn_74 : decode cX1_copiesIn 74 = .ok (.isub, 1) := dk_100 (dk_at dksX1_copiesIn_3 3 rfl rfl)
theorem dX1_copiesIn_75 : decode cX1_copiesIn 75 = .ok (.goto 43, 3) := dk_167 0 43 (dk_at dksX1_copiesIn_3 4 rfl rfl)
theorem dX1_copiesIn_78 : decode cX1_copiesIn 78 = .ok (.iload_n 2, 1) := dk_28 (dk_at dksX1_copiesIn_3 7 rfl rfl)
theorem dX1_copiesIn_79 : decode cX1_copiesIn 79 = .ok (.iconst 1, 1) := dk_4 (dk_at dksX1_copiesIn_3 8 rfl rfl)
theorem dX1_copiesIn_80 : decode cX1_copiesIn 80 = .ok (.if_icmp .ne 22, 3) := dk_160 0 22 (dk_at dksX1_copiesIn_3 9 rfl rfl)
theorem dX1_copiesIn_83 : decode cX1_copiesIn 83 = .ok (.aload 4, 2) := dk_25 4 (dk_at dksX1_copiesIn_3 12 rfl rfl)
theorem dX1_copiesIn_85 : decode cX1_copiesIn 85 = .ok (.getfield 87, 3) := dk_180 0 87 (dk_at dksX1_copiesIn_3 14 rfl rfl)
theorem dX1_copiesIn_88 : decode cX1_copiesIn 88 = .ok (.getfield 170, 3) := dk_180 0 170 (dk_at dksX1_copiesIn_3 17 rfl rfl)
theorem dX1_copiesIn_91 : decode cX1_copiesIn 91 = .ok (.aload_n 3, 1) := dk_45 (dk_at dksX1_copiesIn_3 20 rfl rfl)
theorem dX1_copiesIn_92 : decode cX1_copiesIn 92 = .ok (.getfield 87, 3) := dk_180 0 87 (dk_at dksX1_copiesIn_3 21 rfl rfl)
theorem dX1_copiesIn_95 : decode cX1_copiesIn 95 = .ok (.getfield 170, 3) := dk_180 0 170 (dk_at dksX1_copiesIn_4 0 rfl rfl)
theorem dX1_copiesIn_98 : decode cX1_copiesIn 98 = .ok (.isub, 1) := dk_100 (dk_at dksX1_copiesIn_4 3 rfl rfl)
theorem dX1_copiesIn_99 : decode cX1_copiesIn 99 = .ok (.goto 19, 3) := dk_167 0 19 (dk_at dksX1_copiesIn_4 4 rfl rfl)
theorem dX1_copiesIn_102 : decode cX1_copiesIn 102 = .ok (.aload 4, 2) := dk_25 4 (dk_at dksX1_copiesIn_4 7 rfl rfl)
theorem dX1_copiesIn_104 : decode cX1_copiesIn 104 = .ok (.getfield 87, 3) := dk_180 0 87 (dk_at dksX1_copiesIn_4 9 rfl rfl)
theorem dX1_copiesIn_107 : decode cX1_copiesIn 107 = .ok (.getfield 173, 3) := dk_180 0 173 (dk_at dksX1_copiesIn_4 12 rfl rfl)
theorem dX1_copiesIn_110 : decode cX1_copiesIn 110 = .ok (.aload_n 3, 1) := dk_45 (dk_at dksX1_copiesIn_4 15 rfl rfl)
theorem dX1_copiesIn_111 : decode cX1_copiesIn 111 = .ok (.getfield 87, 3) := dk_180 0 87 (dk_at dksX1_copiesIn_4 16 rfl rfl)
theorem dX1_copiesIn_114 : decode cX1_copiesIn 114 = .ok (.getfield 173, 3) := dk_180 0 173 (dk_at dksX1_copiesIn_4 19 rfl rfl)
theorem dX1_copiesIn_117 : decode cX1_copiesIn 117 = .ok (.isub, 1) := dk_100 (dk_at dksX1_copiesIn_4 22 rfl rfl)
theorem dX1_copiesIn_118 : decode cX1_copiesIn 118 = .ok (.ireturn, 1) := dk_172 (dk_at dksX1_copiesIn_4 23 rfl rfl)
abbrev cX1_copies : ByteArray := prog_1_method_4_code
def yX1_copies : MethodName := ⟨RX1, "copies", "(Ljava/util/List;Ljava/util/List;)V"⟩
def dkwX1_copies_1 : List UInt8 := [185, 0, 13, 2, 0, 62, 132, 2, 1, 167, 255, 229, 177]
abbrev dktX1_copies_1 : List UInt8 := dkwX1_copies_1 ++ []
def dkwX1_copies_0 : List UInt8 := [3, 61, 28, 42, 185, 0, 3, 1, 0, 162, 0, 23, 43, 42, 28, 185, 0, 9, 2, 0]
abbrev dktX1_copies_0 : List UInt8 := dkwX1_copies_0 ++ dktX1_copies_1
theorem dksX1_copies_0 : cX1_copies.data.toList.drop 0 = dktX1_copies_0 := by decide +kernel
theorem dksX1_copies_1 : cX1_copies.data.toList.drop 20 = dktX1_copies_1 := dk_seg dksX1_copies_0 20 rfl rfl
theorem dX1_copies_0 : decode cX1_copies 0 = .ok (.iconst 0, 1) := dk_3 (dk_at dksX1_copies_0 0 rfl rfl)
theorem dX1_copies_1 : decode cX1_copies 1 = .ok (.istore_n 2, 1) := dk_61 (dk_at dksX1_copies_0 1 rfl rfl)
theorem dX1_copies_2 : decode cX1_copies 2 = .ok (.iload_n 2, 1) := dk_28 (dk_at dksX1_copies_0 2 rfl rfl)
theorem dX1_copies_3 : decode cX1_copies 3 = .ok (.aload_n 0, 1) := dk_42 (dk_at dksX1_copies_0 3 rfl rfl)
theorem dX1_copies_4 : decode cX1_copies 4 = .ok (.invokeinterface 3 1, 5) := by decide +kernel
theorem dX1_copies_9 : decode cX1_copies 9 = .ok (.if_icmp .ge 23, 3) := dk_162 0 23 (dk_at dksX1_copies_0 9 rfl rfl)
theorem dX1_copies_12 : decode cX1_copies 12 = .ok (.aload_n 1, 1) := dk_43 (dk_at dksX1_copies_0 12 rfl rfl)
theorem dX1_copies_13 : decode cX1_copies 13 = .ok (.aload_n 0, 1) := dk_42 (dk_at dksX1_copies_0 13 rfl rfl)
theorem dX1_copies_14 : decode cX1_copies 14 = .ok (.iload_n 2, 1) := dk_28 (dk_at dksX1_copies_0 14 rfl rfl)
theorem dX1_copies_15 : decode cX1_copies 15 = .ok (.invokeinterface 9 2, 5) := by decide +kernel
theorem dX1_copies_20 : decode cX1_copies 20 = .ok (.invokeinterface 13 2, 5) := by decide +kernel
theorem dX1_copies_25 : decode cX1_copies 25 = .ok (.istore_n 3, 1) := dk_62 (dk_at dksX1_copies_1 5 rfl rfl)
theorem dX1_copies_26 : decode cX1_copies 26 = .ok (.iinc 2 1, 3) := dk_132 2 1 (dk_at dksX1_copies_1 6 rfl rfl)
theorem dX1_copies_29 : decode cX1_copies 29 = .ok (.goto (-27), 3) := dk_167 255 229 (dk_at dksX1_copies_1 9 rfl rfl)
theorem dX1_copies_32 : decode cX1_copies 32 = .ok (.return_, 1) := dk_177 (dk_at dksX1_copies_1 12 rfl rfl)
abbrev cX1_rightIf : ByteArray := prog_1_method_57_code
def yX1_rightIf : MethodName := ⟨RX1, "rightIf", "(IIII)I"⟩
def dkwX1_rightIf_0 : List UInt8 := [42, 27, 28, 182, 1, 80, 58, 5, 29, 21, 4, 184, 1, 84, 42, 27, 28, 29, 21, 4, 182, 1, 87, 172]
abbrev dktX1_rightIf_0 : List UInt8 := dkwX1_rightIf_0 ++ []
theorem dksX1_rightIf_0 : cX1_rightIf.data.toList.drop 0 = dktX1_rightIf_0 := by decide +kernel
theorem dX1_rightIf_0 : decode cX1_rightIf 0 = .ok (.aload_n 0, 1) := dk_42 (dk_at dksX1_rightIf_0 0 rfl rfl)
theorem dX1_rightIf_1 : decode cX1_rightIf 1 = .ok (.iload_n 1, 1) := dk_27 (dk_at dksX1_rightIf_0 1 rfl rfl)
theorem dX1_rightIf_2 : decode cX1_rightIf 2 = .ok (.iload_n 2, 1) := dk_28 (dk_at dksX1_rightIf_0 2 rfl rfl)
theorem dX1_rightIf_3 : decode cX1_rightIf 3 = .ok (.invokevirtual 336, 3) := dk_182 1 80 (dk_at dksX1_rightIf_0 3 rfl rfl)
theorem dX1_rightIf_6 : decode cX1_rightIf 6 = .ok (.astore 5, 2) := dk_58 5 (dk_at dksX1_rightIf_0 6 rfl rfl)
theorem dX1_rightIf_8 : decode cX1_rightIf 8 = .ok (.iload_n 3, 1) := dk_29 (dk_at dksX1_rightIf_0 8 rfl rfl)
theorem dX1_rightIf_9 : decode cX1_rightIf 9 = .ok (.iload 4, 2) := dk_21 4 (dk_at dksX1_rightIf_0 9 rfl rfl)
theorem dX1_rightIf_11 : decode cX1_rightIf 11 = .ok (.invokestatic 340, 3) := dk_184 1 84 (dk_at dksX1_rightIf_0 11 rfl rfl)
theorem dX1_rightIf_14 : decode cX1_rightIf 14 = .ok (.aload_n 0, 1) := dk_42 (dk_at dksX1_rightIf_0 14 rfl rfl)
theorem dX1_rightIf_15 : decode cX1_rightIf 15 = .ok (.iload_n 1, 1) := dk_27 (dk_at dksX1_rightIf_0 15 rfl rfl)
theorem dX1_rightIf_16 : decode cX1_rightIf 16 = .ok (.iload_n 2, 1) := dk_28 (dk_at dksX1_rightIf_0 16 rfl rfl)
theorem dX1_rightIf_17 : decode cX1_rightIf 17 = .ok (.iload_n 3, 1) := dk_29 (dk_at dksX1_rightIf_0 17 rfl rfl)
theorem dX1_rightIf_18 : decode cX1_rightIf 18 = .ok (.iload 4, 2) := dk_21 4 (dk_at dksX1_rightIf_0 18 rfl rfl)
theorem dX1_rightIf_20 : decode cX1_rightIf 20 = .ok (.invokevirtual 343, 3) := dk_182 1 87 (dk_at dksX1_rightIf_0 20 rfl rfl)
theorem dX1_rightIf_23 : decode cX1_rightIf 23 = .ok (.ireturn, 1) := dk_172 (dk_at dksX1_rightIf_0 23 rfl rfl)
abbrev cX1_checkTwo : ByteArray := prog_1_method_18_code
def yX1_checkTwo : MethodName := ⟨RX1, "checkTwo", "(II)LVotingHuts$World;"⟩
def dkwX1_checkTwo_1 : List UInt8 := [176]
abbrev dktX1_checkTwo_1 : List UInt8 := dkwX1_checkTwo_1 ++ []
def dkwX1_checkTwo_0 : List UInt8 := [42, 27, 182, 0, 102, 78, 28, 42, 180, 0, 64, 180, 0, 87, 182, 0, 91, 184, 0, 79, 42, 180, 0, 64]
abbrev dktX1_checkTwo_0 : List UInt8 := dkwX1_checkTwo_0 ++ dktX1_checkTwo_1
theorem dksX1_checkTwo_0 : cX1_checkTwo.data.toList.drop 0 = dktX1_checkTwo_0 := by decide +kernel
theorem dksX1_checkTwo_1 : cX1_checkTwo.data.toList.drop 24 = dktX1_checkTwo_1 := dk_seg dksX1_checkTwo_0 24 rfl rfl
theorem dX1_checkTwo_0 : decode cX1_checkTwo 0 = .ok (.aload_n 0, 1) := dk_42 (dk_at dksX1_checkTwo_0 0 rfl rfl)
theorem dX1_checkTwo_1 : decode cX1_checkTwo 1 = .ok (.iload_n 1, 1) := dk_27 (dk_at dksX1_checkTwo_0 1 rfl rfl)
theorem dX1_checkTwo_2 : decode cX1_checkTwo 2 = .ok (.invokevirtual 102, 3) := dk_182 0 102 (dk_at dksX1_checkTwo_0 2 rfl rfl)
theorem dX1_checkTwo_5 : decode cX1_checkTwo 5 = .ok (.astore_n 3, 1) := dk_78 (dk_at dksX1_checkTwo_0 5 rfl rfl)
theorem dX1_checkTwo_6 : decode cX1_checkTwo 6 = .ok (.iload_n 2, 1) := dk_28 (dk_at dksX1_checkTwo_0 6 rfl rfl)
theorem dX1_checkTwo_7 : decode cX1_checkTwo 7 = .ok (.aload_n 0, 1) := dk_42 (dk_at dksX1_checkTwo_0 7 rfl rfl)
theorem dX1_checkTwo_8 : decode cX1_checkTwo 8 = .ok (.getfield 64, 3) := dk_180 0 64 (dk_at dksX1_checkTwo_0 8 rfl rfl)
theorem dX1_checkTwo_11 : decode cX1_checkTwo 11 = .ok (.getfield 87, 3) := dk_180 0 87 (dk_at dksX1_checkTwo_0 11 rfl rfl)
theorem dX1_checkTwo_14 : decode cX1_checkTwo 14 = .ok (.invokevirtual 91, 3) := dk_182 0 91 (dk_at dksX1_checkTwo_0 14 rfl rfl)
theorem dX1_checkTwo_17 : decode cX1_checkTwo 17 = .ok (.invokestatic 79, 3) := dk_184 0 79 (dk_at dksX1_checkTwo_0 17 rfl rfl)
theorem dX1_checkTwo_20 : decode cX1_checkTwo 20 = .ok (.aload_n 0, 1) := dk_42 (dk_at dksX1_checkTwo_0 20 rfl rfl)
theorem dX1_checkTwo_21 : decode cX1_checkTwo 21 = .ok (.getfield 64, 3) := dk_180 0 64 (dk_at dksX1_checkTwo_0 21 rfl rfl)
theorem dX1_checkTwo_24 : decode cX1_checkTwo 24 = .ok (.areturn, 1) := dk_176 (dk_at dksX1_checkTwo_1 0 rfl rfl)
abbrev cX1_checkStorm : ByteArray := prog_1_method_19_code
def yX1_checkStorm : MethodName := ⟨RX1, "checkStorm", "(II)V"⟩
def dkwX1_checkStorm_1 : List UInt8 := [4, 167, 0, 4, 3, 184, 0, 116, 177]
abbrev dktX1_checkStorm_1 : List UInt8 := dkwX1_checkStorm_1 ++ []
def dkwX1_checkStorm_0 : List UInt8 := [26, 133, 9, 20, 0, 114, 184, 0, 54, 153, 0, 19, 27, 133, 9, 20, 0, 114, 184, 0, 54, 153, 0, 7]
abbrev dktX1_checkStorm_0 : List UInt8 := dkwX1_checkStorm_0 ++ dktX1_checkStorm_1
theorem dksX1_checkStorm_0 : cX1_checkStorm.data.toList.drop 0 = dktX1_checkStorm_0 := by decide +kernel
theorem dksX1_checkStorm_1 : cX1_checkStorm.data.toList.drop 24 = dktX1_checkStorm_1 := dk_seg dksX1_checkStorm_0 24 rfl rfl
theorem dX1_checkStorm_0 : decode cX1_checkStorm 0 = .ok (.iload_n 0, 1) := dk_26 (dk_at dksX1_checkStorm_0 0 rfl rfl)
theorem dX1_checkStorm_1 : decode cX1_checkStorm 1 = .ok (.i2l, 1) := dk_133 (dk_at dksX1_checkStorm_0 1 rfl rfl)
theorem dX1_checkStorm_2 : decode cX1_checkStorm 2 = .ok (.lconst 0, 1) := dk_9 (dk_at dksX1_checkStorm_0 2 rfl rfl)
theorem dX1_checkStorm_3 : decode cX1_checkStorm 3 = .ok (.ldc2_w 114, 3) := dk_20 0 114 (dk_at dksX1_checkStorm_0 3 rfl rfl)
theorem dX1_checkStorm_6 : decode cX1_checkStorm 6 = .ok (.invokestatic 54, 3) := dk_184 0 54 (dk_at dksX1_checkStorm_0 6 rfl rfl)
theorem dX1_checkStorm_9 : decode cX1_checkStorm 9 = .ok (.ifCond .eq 19, 3) := dk_153 0 19 (dk_at dksX1_checkStorm_0 9 rfl rfl)
theorem dX1_checkStorm_12 : decode cX1_checkStorm 12 = .ok (.iload_n 1, 1) := dk_27 (dk_at dksX1_checkStorm_0 12 rfl rfl)
theorem dX1_checkStorm_13 : decode cX1_checkStorm 13 = .ok (.i2l, 1) := dk_133 (dk_at dksX1_checkStorm_0 13 rfl rfl)
theorem dX1_checkStorm_14 : decode cX1_checkStorm 14 = .ok (.lconst 0, 1) := dk_9 (dk_at dksX1_checkStorm_0 14 rfl rfl)
theorem dX1_checkStorm_15 : decode cX1_checkStorm 15 = .ok (.ldc2_w 114, 3) := dk_20 0 114 (dk_at dksX1_checkStorm_0 15 rfl rfl)
theorem dX1_checkStorm_18 : decode cX1_checkStorm 18 = .ok (.invokestatic 54, 3) := dk_184 0 54 (dk_at dksX1_checkStorm_0 18 rfl rfl)
theorem dX1_checkStorm_21 : decode cX1_checkStorm 21 = .ok (.ifCond .eq 7, 3) := dk_153 0 7 (dk_at dksX1_checkStorm_0 21 rfl rfl)
theorem dX1_checkStorm_24 : decode cX1_checkStorm 24 = .ok (.iconst 1, 1) := dk_4 (dk_at dksX1_checkStorm_1 0 rfl rfl)
theorem dX1_checkStorm_25 : decode cX1_checkStorm 25 = .ok (.goto 4, 3) := dk_167 0 4 (dk_at dksX1_checkStorm_1 1 rfl rfl)
theorem dX1_checkStorm_28 : decode cX1_checkStorm 28 = .ok (.iconst 0, 1) := dk_3 (dk_at dksX1_checkStorm_1 4 rfl rfl)
theorem dX1_checkStorm_29 : decode cX1_checkStorm 29 = .ok (.invokestatic 116, 3) := dk_184 0 116 (dk_at dksX1_checkStorm_1 5 rfl rfl)
theorem dX1_checkStorm_32 : decode cX1_checkStorm 32 = .ok (.return_, 1) := dk_177 (dk_at dksX1_checkStorm_1 8 rfl rfl)
abbrev cX1_rightWith : ByteArray := prog_1_method_56_code
def yX1_rightWith : MethodName := ⟨RX1, "rightWith", "(IIII)I"⟩
def dkwX1_rightWith_1 : List UInt8 := [182, 1, 11, 172]
abbrev dktX1_rightWith_1 : List UInt8 := dkwX1_rightWith_1 ++ []
def dkwX1_rightWith_0 : List UInt8 := [42, 180, 0, 64, 27, 42, 180, 0, 64, 180, 0, 87, 28, 29, 21, 4, 182, 1, 73, 182, 1, 77]
abbrev dktX1_rightWith_0 : List UInt8 := dkwX1_rightWith_0 ++ dktX1_rightWith_1
theorem dksX1_rightWith_0 : cX1_rightWith.data.toList.drop 0 = dktX1_rightWith_0 := by decide +kernel
theorem dksX1_rightWith_1 : cX1_rightWith.data.toList.drop 22 = dktX1_rightWith_1 := dk_seg dksX1_rightWith_0 22 rfl rfl
theorem dX1_rightWith_0 : decode cX1_rightWith 0 = .ok (.aload_n 0, 1) := dk_42 (dk_at dksX1_rightWith_0 0 rfl rfl)
theorem dX1_rightWith_1 : decode cX1_rightWith 1 = .ok (.getfield 64, 3) := dk_180 0 64 (dk_at dksX1_rightWith_0 1 rfl rfl)
theorem dX1_rightWith_4 : decode cX1_rightWith 4 = .ok (.iload_n 1, 1) := dk_27 (dk_at dksX1_rightWith_0 4 rfl rfl)
theorem dX1_rightWith_5 : decode cX1_rightWith 5 = .ok (.aload_n 0, 1) := dk_42 (dk_at dksX1_rightWith_0 5 rfl rfl)
theorem dX1_rightWith_6 : decode cX1_rightWith 6 = .ok (.getfield 64, 3) := dk_180 0 64 (dk_at dksX1_rightWith_0 6 rfl rfl)
theorem dX1_rightWith_9 : decode cX1_rightWith 9 = .ok (.getfield 87, 3) := dk_180 0 87 (dk_at dksX1_rightWith_0 9 rfl rfl)
theorem dX1_rightWith_12 : decode cX1_rightWith 12 = .ok (.iload_n 2, 1) := dk_28 (dk_at dksX1_rightWith_0 12 rfl rfl)
theorem dX1_rightWith_13 : decode cX1_rightWith 13 = .ok (.iload_n 3, 1) := dk_29 (dk_at dksX1_rightWith_0 13 rfl rfl)
theorem dX1_rightWith_14 : decode cX1_rightWith 14 = .ok (.iload 4, 2) := dk_21 4 (dk_at dksX1_rightWith_0 14 rfl rfl)
theorem dX1_rightWith_16 : decode cX1_rightWith 16 = .ok (.invokevirtual 329, 3) := dk_182 1 73 (dk_at dksX1_rightWith_0 16 rfl rfl)
theorem dX1_rightWith_19 : decode cX1_rightWith 19 = .ok (.invokevirtual 333, 3) := dk_182 1 77 (dk_at dksX1_rightWith_0 19 rfl rfl)
theorem dX1_rightWith_22 : decode cX1_rightWith 22 = .ok (.invokevirtual 267, 3) := dk_182 1 11 (dk_at dksX1_rightWith_1 0 rfl rfl)
theorem dX1_rightWith_25 : decode cX1_rightWith 25 = .ok (.ireturn, 1) := dk_172 (dk_at dksX1_rightWith_1 3 rfl rfl)
abbrev cX1_needless : ByteArray := prog_1_method_58_code
def yX1_needless : MethodName := ⟨RX1, "needless", "(II)Z"⟩
def dkwX1_needless_0 : List UInt8 := [42, 27, 28, 182, 1, 80, 78, 45, 45, 27, 182, 1, 63, 27, 28, 182, 1, 90, 172]
abbrev dktX1_needless_0 : List UInt8 := dkwX1_needless_0 ++ []
theorem dksX1_needless_0 : cX1_needless.data.toList.drop 0 = dktX1_needless_0 := by decide +kernel
theorem dX1_needless_0 : decode cX1_needless 0 = .ok (.aload_n 0, 1) := dk_42 (dk_at dksX1_needless_0 0 rfl rfl)
theorem dX1_needless_1 : decode cX1_needless 1 = .ok (.iload_n 1, 1) := dk_27 (dk_at dksX1_needless_0 1 rfl rfl)
theorem dX1_needless_2 : decode cX1_needless 2 = .ok (.iload_n 2, 1) := dk_28 (dk_at dksX1_needless_0 2 rfl rfl)
theorem dX1_needless_3 : decode cX1_needless 3 = .ok (.invokevirtual 336, 3) := dk_182 1 80 (dk_at dksX1_needless_0 3 rfl rfl)
theorem dX1_needless_6 : decode cX1_needless 6 = .ok (.astore_n 3, 1) := dk_78 (dk_at dksX1_needless_0 6 rfl rfl)
theorem dX1_needless_7 : decode cX1_needless 7 = .ok (.aload_n 3, 1) := dk_45 (dk_at dksX1_needless_0 7 rfl rfl)
theorem dX1_needless_8 : decode cX1_needless 8 = .ok (.aload_n 3, 1) := dk_45 (dk_at dksX1_needless_0 8 rfl rfl)
theorem dX1_needless_9 : decode cX1_needless 9 = .ok (.iload_n 1, 1) := dk_27 (dk_at dksX1_needless_0 9 rfl rfl)
theorem dX1_needless_10 : decode cX1_needless 10 = .ok (.invokevirtual 319, 3) := dk_182 1 63 (dk_at dksX1_needless_0 10 rfl rfl)
theorem dX1_needless_13 : decode cX1_needless 13 = .ok (.iload_n 1, 1) := dk_27 (dk_at dksX1_needless_0 13 rfl rfl)
theorem dX1_needless_14 : decode cX1_needless 14 = .ok (.iload_n 2, 1) := dk_28 (dk_at dksX1_needless_0 14 rfl rfl)
theorem dX1_needless_15 : decode cX1_needless 15 = .ok (.invokevirtual 346, 3) := dk_182 1 90 (dk_at dksX1_needless_0 15 rfl rfl)
theorem dX1_needless_18 : decode cX1_needless 18 = .ok (.ireturn, 1) := dk_172 (dk_at dksX1_needless_0 18 rfl rfl)
abbrev cX1_bestCut : ByteArray := prog_1_method_59_code
def yX1_bestCut : MethodName := ⟨RX1, "bestCut", "(I)I"⟩
def dkwX1_bestCut_3 : List UInt8 := [54, 4, 132, 5, 1, 167, 255, 196, 29, 172]
abbrev dktX1_bestCut_3 : List UInt8 := dkwX1_bestCut_3 ++ []
def dkwX1_bestCut_2 : List UInt8 := [182, 1, 77, 182, 1, 11, 54, 6, 21, 6, 21, 4, 163, 0, 6, 167, 0, 10, 21, 5, 62, 21, 6]
abbrev dktX1_bestCut_2 : List UInt8 := dkwX1_bestCut_2 ++ dktX1_bestCut_3
def dkwX1_bestCut_1 : List UInt8 := [182, 0, 91, 162, 0, 51, 42, 180, 0, 64, 27, 42, 180, 0, 64, 180, 0, 87, 21, 5, 182, 1, 94]
abbrev dktX1_bestCut_1 : List UInt8 := dkwX1_bestCut_1 ++ dktX1_bestCut_2
def dkwX1_bestCut_0 : List UInt8 := [42, 27, 182, 0, 102, 77, 3, 62, 2, 54, 4, 3, 54, 5, 21, 5, 42, 180, 0, 64, 180, 0, 87]
abbrev dktX1_bestCut_0 : List UInt8 := dkwX1_bestCut_0 ++ dktX1_bestCut_1
theorem dksX1_bestCut_0 : cX1_bestCut.data.toList.drop 0 = dktX1_bestCut_0 := by decide +kernel
theorem dksX1_bestCut_1 : cX1_bestCut.data.toList.drop 23 = dktX1_bestCut_1 := dk_seg dksX1_bestCut_0 23 rfl rfl
theorem dksX1_bestCut_2 : cX1_bestCut.data.toList.drop 46 = dktX1_bestCut_2 := dk_seg dksX1_bestCut_1 23 rfl rfl
theorem dksX1_bestCut_3 : cX1_bestCut.data.toList.drop 69 = dktX1_bestCut_3 := dk_seg dksX1_bestCut_2 23 rfl rfl
theorem dX1_bestCut_0 : decode cX1_bestCut 0 = .ok (.aload_n 0, 1) := dk_42 (dk_at dksX1_bestCut_0 0 rfl rfl)
theorem dX1_bestCut_1 : decode cX1_bestCut 1 = .ok (.iload_n 1, 1) := dk_27 (dk_at dksX1_bestCut_0 1 rfl rfl)
theorem dX1_bestCut_2 : decode cX1_bestCut 2 = .ok (.invokevirtual 102, 3) := dk_182 0 102 (dk_at dksX1_bestCut_0 2 rfl rfl)
theorem dX1_bestCut_5 : decode cX1_bestCut 5 = .ok (.astore_n 2, 1) := dk_77 (dk_at dksX1_bestCut_0 5 rfl rfl)
theorem dX1_bestCut_6 : decode cX1_bestCut 6 = .ok (.iconst 0, 1) := dk_3 (dk_at dksX1_bestCut_0 6 rfl rfl)
theorem dX1_bestCut_7 : decode cX1_bestCut 7 = .ok (.istore_n 3, 1) := dk_62 (dk_at dksX1_bestCut_0 7 rfl rfl)
theorem dX1_bestCut_8 : decode cX1_bestCut 8 = .ok (.iconst (-1), 1) := dk_2 (dk_at dksX1_bestCut_0 8 rfl rfl)
theorem dX1_bestCut_9 : decode cX1_bestCut 9 = .ok (.istore 4, 2) := dk_54 4 (dk_at dksX1_bestCut_0 9 rfl rfl)
theorem dX1_bestCut_11 : decode cX1_bestCut 11 = .ok (.iconst 0, 1) := dk_3 (dk_at dksX1_bestCut_0 11 rfl rfl)
theorem dX1_bestCut_12 : decode cX1_bestCut 12 = .ok (.istore 5, 2) := dk_54 5 (dk_at dksX1_bestCut_0 12 rfl rfl)
theorem dX1_bestCut_14 : decode cX1_bestCut 14 = .ok (.iload 5, 2) := dk_21 5 (dk_at dksX1_bestCut_0 14 rfl rfl)
theorem dX1_bestCut_16 : decode cX1_bestCut 16 = .ok (.aload_n 0, 1) := dk_42 (dk_at dksX1_bestCut_0 16 rfl rfl)
theorem dX1_bestCut_17 : decode cX1_bestCut 17 = .ok (.getfield 64, 3) := dk_180 0 64 (dk_at dksX1_bestCut_0 17 rfl rfl)
theorem dX1_bestCut_20 : decode cX1_bestCut 20 = .ok (.getfield 87, 3) := dk_180 0 87 (dk_at dksX1_bestCut_0 20 rfl rfl)
theorem dX1_bestCut_23 : decode cX1_bestCut 23 = .ok (.invokevirtual 91, 3) := dk_182 0 91 (dk_at dksX1_bestCut_1 0 rfl rfl)
theorem dX1_bestCut_26 : decode cX1_bestCut 26 = .ok (.if_icmp .ge 51, 3) := dk_162 0 51 (dk_at dksX1_bestCut_1 3 rfl rfl)
theorem dX1_bestCut_29 : decode cX1_bestCut 29 = .ok (.aload_n 0, 1) := dk_42 (dk_at dksX1_bestCut_1 6 rfl rfl)
theorem dX1_bestCut_30 : decode cX1_bestCut 30 = .ok (.getfield 64, 3) := dk_180 0 64 (dk_at dksX1_bestCut_1 7 rfl rfl)
theorem dX1_bestCut_33 : decode cX1_bestCut 33 = .ok (.iload_n 1, 1) := dk_27 (dk_at dksX1_bestCut_1 10 rfl rfl)
theorem dX1_bestCut_34 : decode cX1_bestCut 34 = .ok (.aload_n 0, 1) := dk_42 (dk_at dksX1_bestCut_1 11 rfl rfl)
theorem dX1_bestCut_35 : decode cX1_bestCut 35 = .ok (.getfield 64, 3) := dk_180 0 64 (dk_at dksX1_bestCut_1 12 rfl rfl)
theorem dX1_bestCut_38 : decode cX1_bestCut 38 = .ok (.getfield 87, 3) := dk_180 0 87 (dk_at dksX1_bestCut_1 15 rfl rfl)
theorem dX1_bestCut_41 : decode cX1_bestCut 41 = .ok (.iload 5, 2) := dk_21 5 (dk_at dksX1_bestCut_1 18 rfl rfl)
theorem dX1_bestCut_43 : decode cX1_bestCut 43 = .ok (.invokevirtual 350, 3) := dk_182 1 94 (dk_at dksX1_bestCut_1 20 rfl rfl)
theorem dX1_bestCut_46 : decode cX1_bestCut 46 = .ok (.invokevirtual 333, 3) := dk_182 1 77 (dk_at dksX1_bestCut_2 0 rfl rfl)
theorem dX1_bestCut_49 : decode cX1_bestCut 49 = .ok (.invokevirtual 267, 3) := dk_182 1 11 (dk_at dksX1_bestCut_2 3 rfl rfl)
theorem dX1_bestCut_52 : decode cX1_bestCut 52 = .ok (.istore 6, 2) := dk_54 6 (dk_at dksX1_bestCut_2 6 rfl rfl)
theorem dX1_bestCut_54 : decode cX1_bestCut 54 = .ok (.iload 6, 2) := dk_21 6 (dk_at dksX1_bestCut_2 8 rfl rfl)
theorem dX1_bestCut_56 : decode cX1_bestCut 56 = .ok (.iload 4, 2) := dk_21 4 (dk_at dksX1_bestCut_2 10 rfl rfl)
theorem dX1_bestCut_58 : decode cX1_bestCut 58 = .ok (.if_icmp .gt 6, 3) := dk_163 0 6 (dk_at dksX1_bestCut_2 12 rfl rfl)
theorem dX1_bestCut_61 : decode cX1_bestCut 61 = .ok (.goto 10, 3) := dk_167 0 10 (dk_at dksX1_bestCut_2 15 rfl rfl)
theorem dX1_bestCut_64 : decode cX1_bestCut 64 = .ok (.iload 5, 2) := dk_21 5 (dk_at dksX1_bestCut_2 18 rfl rfl)
theorem dX1_bestCut_66 : decode cX1_bestCut 66 = .ok (.istore_n 3, 1) := dk_62 (dk_at dksX1_bestCut_2 20 rfl rfl)
theorem dX1_bestCut_67 : decode cX1_bestCut 67 = .ok (.iload 6, 2) := dk_21 6 (dk_at dksX1_bestCut_2 21 rfl rfl)
theorem dX1_bestCut_69 : decode cX1_bestCut 69 = .ok (.istore 4, 2) := dk_54 4 (dk_at dksX1_bestCut_3 0 rfl rfl)
theorem dX1_bestCut_71 : decode cX1_bestCut 71 = .ok (.iinc 5 1, 3) := dk_132 5 1 (dk_at dksX1_bestCut_3 2 rfl rfl)
theorem dX1_bestCut_74 : decode cX1_bestCut 74 = .ok (.goto (-60), 3) := dk_167 255 196 (dk_at dksX1_bestCut_3 5 rfl rfl)
theorem dX1_bestCut_77 : decode cX1_bestCut 77 = .ok (.iload_n 3, 1) := dk_29 (dk_at dksX1_bestCut_3 8 rfl rfl)
theorem dX1_bestCut_78 : decode cX1_bestCut 78 = .ok (.ireturn, 1) := dk_172 (dk_at dksX1_bestCut_3 9 rfl rfl)
abbrev cX1_needed : ByteArray := prog_1_method_60_code
def yX1_needed : MethodName := ⟨RX1, "needed", "(I)I"⟩
def dkwX1_needed_3 : List UInt8 := [21, 4, 172]
abbrev dktX1_needed_3 : List UInt8 := dkwX1_needed_3 ++ []
def dkwX1_needed_2 : List UInt8 := [182, 1, 90, 154, 0, 7, 4, 167, 0, 4, 3, 184, 0, 197, 96, 54, 4, 132, 5, 1, 167, 255, 211]
abbrev dktX1_needed_2 : List UInt8 := dkwX1_needed_2 ++ dktX1_needed_3
def dkwX1_needed_1 : List UInt8 := [180, 0, 64, 180, 0, 87, 182, 0, 91, 162, 0, 36, 21, 4, 42, 180, 0, 64, 45, 27, 21, 5]
abbrev dktX1_needed_1 : List UInt8 := dkwX1_needed_1 ++ dktX1_needed_2
def dkwX1_needed_0 : List UInt8 := [42, 27, 182, 0, 102, 77, 42, 180, 0, 64, 27, 182, 1, 63, 78, 3, 54, 4, 3, 54, 5, 21, 5, 42]
abbrev dktX1_needed_0 : List UInt8 := dkwX1_needed_0 ++ dktX1_needed_1
theorem dksX1_needed_0 : cX1_needed.data.toList.drop 0 = dktX1_needed_0 := by decide +kernel
theorem dksX1_needed_1 : cX1_needed.data.toList.drop 24 = dktX1_needed_1 := dk_seg dksX1_needed_0 24 rfl rfl
theorem dksX1_needed_2 : cX1_needed.data.toList.drop 46 = dktX1_needed_2 := dk_seg dksX1_needed_1 22 rfl rfl
theorem dksX1_needed_3 : cX1_needed.data.toList.drop 69 = dktX1_needed_3 := dk_seg dksX1_needed_2 23 rfl rfl
theorem dX1_needed_0 : decode cX1_needed 0 = .ok (.aload_n 0, 1) := dk_42 (dk_at dksX1_needed_0 0 rfl rfl)
theorem dX1_needed_1 : decode cX1_needed 1 = .ok (.iload_n 1, 1) := dk_27 (dk_at dksX1_needed_0 1 rfl rfl)
theorem dX1_needed_2 : decode cX1_needed 2 = .ok (.invokevirtual 102, 3) := dk_182 0 102 (dk_at dksX1_needed_0 2 rfl rfl)
theorem dX1_needed_5 : decode cX1_needed 5 = .ok (.astore_n 2, 1) := dk_77 (dk_at dksX1_needed_0 5 rfl rfl)
theorem dX1_needed_6 : decode cX1_needed 6 = .ok (.aload_n 0, 1) := dk_42 (dk_at dksX1_needed_0 6 rfl rfl)
theorem dX1_needed_7 : decode cX1_needed 7 = .ok (.getfield 64, 3) := dk_180 0 64 (dk_at dksX1_needed_0 7 rfl rfl)
theorem dX1_needed_10 : decode cX1_needed 10 = .ok (.iload_n 1, 1) := dk_27 (dk_at dksX1_needed_0 10 rfl rfl)
theorem dX1_needed_11 : decode cX1_needed 11 = .ok (.invokevirtual 319, 3) := dk_182 1 63 (dk_at dksX1_needed_0 11 rfl rfl)
theorem dX1_needed_14 : decode cX1_needed 14 = .ok (.astore_n 3, 1) := dk_78 (dk_at dksX1_needed_0 14 rfl rfl)
theorem dX1_needed_15 : decode cX1_needed 15 = .ok (.iconst 0, 1) := dk_3 (dk_at dksX1_needed_0 15 rfl rfl)
theorem dX1_needed_16 : decode cX1_needed 16 = .ok (.istore 4, 2) := dk_54 4 (dk_at dksX1_needed_0 16 rfl rfl)
theorem dX1_needed_18 : decode cX1_needed 18 = .ok (.iconst 0, 1) := dk_3 (dk_at dksX1_needed_0 18 rfl rfl)
theorem dX1_needed_19 : decode cX1_needed 19 = .ok (.istore 5, 2) := dk_54 5 (dk_at dksX1_needed_0 19 rfl rfl)
theorem dX1_needed_21 : decode cX1_needed 21 = .ok (.iload 5, 2) := dk_21 5 (dk_at dksX1_needed_0 21 rfl rfl)
theorem dX1_needed_23 : decode cX1_needed 23 = .ok (.aload_n 0, 1) := dk_42 (dk_at dksX1_needed_0 23 rfl rfl)
theorem dX1_needed_24 : decode cX1_needed 24 = .ok (.getfield 64, 3) := dk_180 0 64 (dk_at dksX1_needed_1 0 rfl rfl)
theorem dX1_needed_27 : decode cX1_needed 27 = .ok (.getfield 87, 3) := dk_180 0 87 (dk_at dksX1_needed_1 3 rfl rfl)
theorem dX1_needed_30 : decode cX1_needed 30 = .ok (.invokevirtual 91, 3) := dk_182 0 91 (dk_at dksX1_needed_1 6 rfl rfl)
theorem dX1_needed_33 : decode cX1_needed 33 = .ok (.if_icmp .ge 36, 3) := dk_162 0 36 (dk_at dksX1_needed_1 9 rfl rfl)
theorem dX1_needed_36 : decode cX1_needed 36 = .ok (.iload 4, 2) := dk_21 4 (dk_at dksX1_needed_1 12 rfl rfl)
theorem dX1_needed_38 : decode cX1_needed 38 = .ok (.aload_n 0, 1) := dk_42 (dk_at dksX1_needed_1 14 rfl rfl)
theorem dX1_needed_39 : decode cX1_needed 39 = .ok (.getfield 64, 3) := dk_180 0 64 (dk_at dksX1_needed_1 15 rfl rfl)
theorem dX1_needed_42 : decode cX1_needed 42 = .ok (.aload_n 3, 1) := dk_45 (dk_at dksX1_needed_1 18 rfl rfl)
theorem dX1_needed_43 : decode cX1_needed 43 = .ok (.iload_n 1, 1) := dk_27 (dk_at dksX1_needed_1 19 rfl rfl)
theorem dX1_needed_44 : decode cX1_needed 44 = .ok (.iload 5, 2) := dk_21 5 (dk_at dksX1_needed_1 20 rfl rfl)
theorem dX1_needed_46 : decode cX1_needed 46 = .ok (.invokevirtual 346, 3) := dk_182 1 90 (dk_at dksX1_needed_2 0 rfl rfl)
theorem dX1_needed_49 : decode cX1_needed 49 = .ok (.ifCond .ne 7, 3) := dk_154 0 7 (dk_at dksX1_needed_2 3 rfl rfl)
theorem dX1_needed_52 : decode cX1_needed 52 = .ok (.iconst 1, 1) := dk_4 (dk_at dksX1_needed_2 6 rfl rfl)
theorem dX1_needed_53 : decode cX1_needed 53 = .ok (.goto 4, 3) := dk_167 0 4 (dk_at dksX1_needed_2 7 rfl rfl)
theorem dX1_needed_56 : decode cX1_needed 56 = .ok (.iconst 0, 1) := dk_3 (dk_at dksX1_needed_2 10 rfl rfl)
theorem dX1_needed_57 : decode cX1_needed 57 = .ok (.invokestatic 197, 3) := dk_184 0 197 (dk_at dksX1_needed_2 11 rfl rfl)
theorem dX1_needed_60 : decode cX1_needed 60 = .ok (.iadd, 1) := dk_96 (dk_at dksX1_needed_2 14 rfl rfl)
theorem dX1_needed_61 : decode cX1_needed 61 = .ok (.istore 4, 2) := dk_54 4 (dk_at dksX1_needed_2 15 rfl rfl)
theorem dX1_needed_63 : decode cX1_needed 63 = .ok (.iinc 5 1, 3) := dk_132 5 1 (dk_at dksX1_needed_2 17 rfl rfl)
theorem dX1_needed_66 : decode cX1_needed 66 = .ok (.goto (-45), 3) := dk_167 255 211 (dk_at dksX1_needed_2 20 rfl rfl)
theorem dX1_needed_69 : decode cX1_needed 69 = .ok (.iload 4, 2) := dk_21 4 (dk_at dksX1_needed_3 0 rfl rfl)
theorem dX1_needed_71 : decode cX1_needed 71 = .ok (.ireturn, 1) := dk_172 (dk_at dksX1_needed_3 2 rfl rfl)
abbrev cX1_bestAsks : ByteArray := prog_1_method_61_code
def yX1_bestAsks : MethodName := ⟨RX1, "bestAsks", "(I)I"⟩
def dkwX1_bestAsks_3 : List UInt8 := [167, 255, 201, 29, 172]
abbrev dktX1_bestAsks_3 : List UInt8 := dkwX1_bestAsks_3 ++ []
def dkwX1_bestAsks_2 : List UInt8 := [54, 6, 21, 6, 21, 4, 163, 0, 6, 167, 0, 10, 21, 5, 62, 21, 6, 54, 4, 132, 5, 1]
abbrev dktX1_bestAsks_2 : List UInt8 := dkwX1_bestAsks_2 ++ dktX1_bestAsks_3
def dkwX1_bestAsks_1 : List UInt8 := [44, 42, 180, 0, 64, 180, 0, 87, 42, 180, 0, 64, 180, 0, 161, 21, 5, 182, 1, 98, 182, 1, 11]
abbrev dktX1_bestAsks_1 : List UInt8 := dkwX1_bestAsks_1 ++ dktX1_bestAsks_2
def dkwX1_bestAsks_0 : List UInt8 := [42, 27, 182, 0, 102, 77, 3, 62, 2, 54, 4, 3, 54, 5, 21, 5, 8, 163, 0, 55, 42, 180, 0, 64]
abbrev dktX1_bestAsks_0 : List UInt8 := dkwX1_bestAsks_0 ++ dktX1_bestAsks_1
theorem dksX1_bestAsks_0 : cX1_bestAsks.data.toList.drop 0 = dktX1_bestAsks_0 := by decide +kernel
theorem dksX1_bestAsks_1 : cX1_bestAsks.data.toList.drop 24 = dktX1_bestAsks_1 := dk_seg dksX1_bestAsks_0 24 rfl rfl
theorem dksX1_bestAsks_2 : cX1_bestAsks.data.toList.drop 47 = dktX1_bestAsks_2 := dk_seg dksX1_bestAsks_1 23 rfl rfl
theorem dksX1_bestAsks_3 : cX1_bestAsks.data.toList.drop 69 = dktX1_bestAsks_3 := dk_seg dksX1_bestAsks_2 22 rfl rfl
theorem dX1_bestAsks_0 : decode cX1_bestAsks 0 = .ok (.aload_n 0, 1) := dk_42 (dk_at dksX1_bestAsks_0 0 rfl rfl)
theorem dX1_bestAsks_1 : decode cX1_bestAsks 1 = .ok (.iload_n 1, 1) := dk_27 (dk_at dksX1_bestAsks_0 1 rfl rfl)
theorem dX1_bestAsks_2 : decode cX1_bestAsks 2 = .ok (.invokevirtual 102, 3) := dk_182 0 102 (dk_at dksX1_bestAsks_0 2 rfl rfl)
theorem dX1_bestAsks_5 : decode cX1_bestAsks 5 = .ok (.astore_n 2, 1) := dk_77 (dk_at dksX1_bestAsks_0 5 rfl rfl)
theorem dX1_bestAsks_6 : decode cX1_bestAsks 6 = .ok (.iconst 0, 1) := dk_3 (dk_at dksX1_bestAsks_0 6 rfl rfl)
theorem dX1_bestAsks_7 : decode cX1_bestAsks 7 = .ok (.istore_n 3, 1) := dk_62 (dk_at dksX1_bestAsks_0 7 rfl rfl)
theorem dX1_bestAsks_8 : decode cX1_bestAsks 8 = .ok (.iconst (-1), 1) := dk_2 (dk_at dksX1_bestAsks_0 8 rfl rfl)
theorem dX1_bestAsks_9 : decode cX1_bestAsks 9 = .ok (.istore 4, 2) := dk_54 4 (dk_at dksX1_bestAsks_0 9 rfl rfl)
theorem dX1_bestAsks_11 : decode cX1_bestAsks 11 = .ok (.iconst 0, 1) := dk_3 (dk_at dksX1_bestAsks_0 11 rfl rfl)
theorem dX1_bestAsks_12 : decode cX1_bestAsks 12 = .ok (.istore 5, 2) := dk_54 5 (dk_at dksX1_bestAsks_0 12 rfl rfl)
theorem dX1_bestAsks_14 : decode cX1_bestAsks 14 = .ok (.iload 5, 2) := dk_21 5 (dk_at dksX1_bestAsks_0 14 rfl rfl)
theorem dX1_bestAsks_16 : decode cX1_bestAsks 16 = .ok (.iconst 5, 1) := dk_8 (dk_at dksX1_bestAsks_0 16 rfl rfl)
theorem dX1_bestAsks_17 : decode cX1_bestAsks 17 = .ok (.if_icmp .gt 55, 3) := dk_163 0 55 (dk_at dksX1_bestAsks_0 17 rfl rfl)
theorem dX1_bestAsks_20 : decode cX1_bestAsks 20 = .ok (.aload_n 0, 1) := dk_42 (dk_at dksX1_bestAsks_0 20 rfl rfl)
theorem dX1_bestAsks_21 : decode cX1_bestAsks 21 = .ok (.getfield 64, 3) := dk_180 0 64 (dk_at dksX1_bestAsks_0 21 rfl rfl)
theorem dX1_bestAsks_24 : decode cX1_bestAsks 24 = .ok (.aload_n 2, 1) := dk_44 (dk_at dksX1_bestAsks_1 0 rfl rfl)
theorem dX1_bestAsks_25 : decode cX1_bestAsks 25 = .ok (.aload_n 0, 1) := dk_42 (dk_at dksX1_bestAsks_1 1 rfl rfl)
theorem dX1_bestAsks_26 : decode cX1_bestAsks 26 = .ok (.getfield 64, 3) := dk_180 0 64 (dk_at dksX1_bestAsks_1 2 rfl rfl)
theorem dX1_bestAsks_29 : decode cX1_bestAsks 29 = .ok (.getfield 87, 3) := dk_180 0 87 (dk_at dksX1_bestAsks_1 5 rfl rfl)
theorem dX1_bestAsks_32 : decode cX1_bestAsks 32 = .ok (.aload_n 0, 1) := dk_42 (dk_at dksX1_bestAsks_1 8 rfl rfl)
theorem dX1_bestAsks_33 : decode cX1_bestAsks 33 = .ok (.getfield 64, 3) := dk_180 0 64 (dk_at dksX1_bestAsks_1 9 rfl rfl)
theorem dX1_bestAsks_36 : decode cX1_bestAsks 36 = .ok (.getfield 161, 3) := dk_180 0 161 (dk_at dksX1_bestAsks_1 12 rfl rfl)
theorem dX1_bestAsks_39 : decode cX1_bestAsks 39 = .ok (.iload 5, 2) := dk_21 5 (dk_at dksX1_bestAsks_1 15 rfl rfl)
theorem dX1_bestAsks_41 : decode cX1_bestAsks 41 = .ok (.invokevirtual 354, 3) := dk_182 1 98 (dk_at dksX1_bestAsks_1 17 rfl rfl)
theorem dX1_bestAsks_44 : decode cX1_bestAsks 44 = .ok (.invokevirtual 267, 3) := dk_182 1 11 (dk_at dksX1_bestAsks_1 20 rfl rfl)
theorem dX1_bestAsks_47 : decode cX1_bestAsks 47 = .ok (.istore 6, 2) := dk_54 6 (dk_at dksX1_bestAsks_2 0 rfl rfl)
theorem dX1_bestAsks_49 : decode cX1_bestAsks 49 = .ok (.iload 6, 2) := dk_21 6 (dk_at dksX1_bestAsks_2 2 rfl rfl)
theorem dX1_bestAsks_51 : decode cX1_bestAsks 51 = .ok (.iload 4, 2) := dk_21 4 (dk_at dksX1_bestAsks_2 4 rfl rfl)
theorem dX1_bestAsks_53 : decode cX1_bestAsks 53 = .ok (.if_icmp .gt 6, 3) := dk_163 0 6 (dk_at dksX1_bestAsks_2 6 rfl rfl)
theorem dX1_bestAsks_56 : decode cX1_bestAsks 56 = .ok (.goto 10, 3) := dk_167 0 10 (dk_at dksX1_bestAsks_2 9 rfl rfl)
theorem dX1_bestAsks_59 : decode cX1_bestAsks 59 = .ok (.iload 5, 2) := dk_21 5 (dk_at dksX1_bestAsks_2 12 rfl rfl)
theorem dX1_bestAsks_61 : decode cX1_bestAsks 61 = .ok (.istore_n 3, 1) := dk_62 (dk_at dksX1_bestAsks_2 14 rfl rfl)
theorem dX1_bestAsks_62 : decode cX1_bestAsks 62 = .ok (.iload 6, 2) := dk_21 6 (dk_at dksX1_bestAsks_2 15 rfl rfl)
theorem dX1_bestAsks_64 : decode cX1_bestAsks 64 = .ok (.istore 4, 2) := dk_54 4 (dk_at dksX1_bestAsks_2 17 rfl rfl)
theorem dX1_bestAsks_66 : decode cX1_bestAsks 66 = .ok (.iinc 5 1, 3) := dk_132 5 1 (dk_at dksX1_bestAsks_2 19 rfl rfl)
theorem dX1_bestAsks_69 : decode cX1_bestAsks 69 = .ok (.goto (-55), 3) := dk_167 255 201 (dk_at dksX1_bestAsks_3 0 rfl rfl)
theorem dX1_bestAsks_72 : decode cX1_bestAsks 72 = .ok (.iload_n 3, 1) := dk_29 (dk_at dksX1_bestAsks_3 3 rfl rfl)
theorem dX1_bestAsks_73 : decode cX1_bestAsks 73 = .ok (.ireturn, 1) := dk_172 (dk_at dksX1_bestAsks_3 4 rfl rfl)
abbrev cX1_bestStart : ByteArray := prog_1_method_62_code
def yX1_bestStart : MethodName := ⟨RX1, "bestStart", "(III)I"⟩
def dkwX1_bestStart_6 : List UInt8 := [21, 6, 172]
abbrev dktX1_bestStart_6 : List UInt8 := dkwX1_bestStart_6 ++ []
def dkwX1_bestStart_5 : List UInt8 := [21, 9, 21, 7, 163, 0, 6, 167, 0, 11, 21, 8, 54, 6, 21, 9, 54, 7, 132, 8, 1, 167, 255, 184]
abbrev dktX1_bestStart_5 : List UInt8 := dkwX1_bestStart_5 ++ dktX1_bestStart_6
def dkwX1_bestStart_4 : List UInt8 := [180, 0, 87, 25, 4, 180, 0, 161, 21, 8, 96, 25, 4, 180, 0, 158, 182, 1, 98, 182, 1, 11, 54, 9]
abbrev dktX1_bestStart_4 : List UInt8 := dkwX1_bestStart_4 ++ dktX1_bestStart_5
def dkwX1_bestStart_3 : List UInt8 := [162, 0, 72, 25, 4, 187, 0, 106, 89, 25, 4, 180, 0, 161, 21, 8, 96, 25, 5, 183, 1, 109, 25, 4]
abbrev dktX1_bestStart_3 : List UInt8 := dkwX1_bestStart_3 ++ dktX1_bestStart_4
def dkwX1_bestStart_2 : List UInt8 := [184, 0, 116, 27, 28, 184, 1, 105, 58, 5, 3, 54, 6, 2, 54, 7, 3, 54, 8, 21, 8, 29]
abbrev dktX1_bestStart_2 : List UInt8 := dkwX1_bestStart_2 ++ dktX1_bestStart_3
def dkwX1_bestStart_1 : List UInt8 := [184, 0, 54, 153, 0, 19, 29, 133, 10, 20, 1, 103, 184, 0, 54, 153, 0, 7, 4, 167, 0, 4, 3]
abbrev dktX1_bestStart_1 : List UInt8 := dkwX1_bestStart_1 ++ dktX1_bestStart_2
def dkwX1_bestStart_0 : List UInt8 := [42, 182, 0, 72, 58, 4, 27, 133, 9, 20, 0, 114, 184, 0, 54, 153, 0, 31, 28, 133, 10, 20, 1, 101]
abbrev dktX1_bestStart_0 : List UInt8 := dkwX1_bestStart_0 ++ dktX1_bestStart_1
theorem dksX1_bestStart_0 : cX1_bestStart.data.toList.drop 0 = dktX1_bestStart_0 := by decide +kernel
theorem dksX1_bestStart_1 : cX1_bestStart.data.toList.drop 24 = dktX1_bestStart_1 := dk_seg dksX1_bestStart_0 24 rfl rfl
theorem dksX1_bestStart_2 : cX1_bestStart.data.toList.drop 47 = dktX1_bestStart_2 := dk_seg dksX1_bestStart_1 23 rfl rfl
theorem dksX1_bestStart_3 : cX1_bestStart.data.toList.drop 69 = dktX1_bestStart_3 := dk_seg dksX1_bestStart_2 22 rfl rfl
theorem dksX1_bestStart_4 : cX1_bestStart.data.toList.drop 93 = dktX1_bestStart_4 := dk_seg dksX1_bestStart_3 24 rfl rfl
theorem dksX1_bestStart_5 : cX1_bestStart.data.toList.drop 117 = dktX1_bestStart_5 := dk_seg dksX1_bestStart_4 24 rfl rfl
theorem dksX1_bestStart_6 : cX1_bestStart.data.toList.drop 141 = dktX1_bestStart_6 := dk_seg dksX1_bestStart_5 24 rfl rfl
theorem dX1_bestStart_0 : decode cX1_bestStart 0 = .ok (.aload_n 0, 1) := dk_42 (dk_at dksX1_bestStart_0 0 rfl rfl)
theorem dX1_bestStart_1 : decode cX1_bestStart 1 = .ok (.invokevirtual 72, 3) := dk_182 0 72 (dk_at dksX1_bestStart_0 1 rfl rfl)
theorem dX1_bestStart_4 : decode cX1_bestStart 4 = .ok (.astore 4, 2) := dk_58 4 (dk_at dksX1_bestStart_0 4 rfl rfl)
theorem dX1_bestStart_6 : decode cX1_bestStart 6 = .ok (.iload_n 1, 1) := dk_27 (dk_at dksX1_bestStart_0 6 rfl rfl)
theorem dX1_bestStart_7 : decode cX1_bestStart 7 = .ok (.i2l, 1) := dk_133 (dk_at dksX1_bestStart_0 7 rfl rfl)
theorem dX1_bestStart_8 : decode cX1_bestStart 8 = .ok (.lconst 0, 1) := dk_9 (dk_at dksX1_bestStart_0 8 rfl rfl)
theorem dX1_bestStart_9 : decode cX1_bestStart 9 = .ok (.ldc2_w 114, 3) := dk_20 0 114 (dk_at dksX1_bestStart_0 9 rfl rfl)
theorem dX1_bestStart_12 : decode cX1_bestStart 12 = .ok (.invokestatic 54, 3) := dk_184 0 54 (dk_at dksX1_bestStart_0 12 rfl rfl)
theorem dX1_bestStart_15 : decode cX1_bestStart 15 = .ok (.ifCond .eq 31, 3) := dk_153 0 31 (dk_at dksX1_bestStart_0 15 rfl rfl)
theorem dX1_bestStart_18 : decode cX1_bestStart 18 = .ok (.iload_n 2, 1) := dk_28 (dk_at dksX1_bestStart_0 18 rfl rfl)
theorem dX1_bestStart_19 : decode cX1_bestStart 19 = .ok (.i2l, 1) := dk_133 (dk_at dksX1_bestStart_0 19 rfl rfl)
theorem dX1_bestStart_20 : decode cX1_bestStart 20 = .ok (.lconst 1, 1) := dk_10 (dk_at dksX1_bestStart_0 20 rfl rfl)
theorem dX1_bestStart_21 : decode cX1_bestStart 21 = .ok (.ldc2_w 357, 3) := dk_20 1 101 (dk_at dksX1_bestStart_0 21 rfl rfl)
theorem dX1_bestStart_24 : decode cX1_bestStart 24 = .ok (.invokestatic 54, 3) := dk_184 0 54 (dk_at dksX1_bestStart_1 0 rfl rfl)
theorem dX1_bestStart_27 : decode cX1_bestStart 27 = .ok (.ifCond .eq 19, 3) := dk_153 0 19 (dk_at dksX1_bestStart_1 3 rfl rfl)
theorem dX1_bestStart_30 : decode cX1_bestStart 30 = .ok (.iload_n 3, 1) := dk_29 (dk_at dksX1_bestStart_1 6 rfl rfl)
theorem dX1_bestStart_31 : decode cX1_bestStart 31 = .ok (.i2l, 1) := dk_133 (dk_at dksX1_bestStart_1 7 rfl rfl)
theorem dX1_bestStart_32 : decode cX1_bestStart 32 = .ok (.lconst 1, 1) := dk_10 (dk_at dksX1_bestStart_1 8 rfl rfl)
theorem dX1_bestStart_33 : decode cX1_bestStart 33 = .ok (.ldc2_w 359, 3) := dk_20 1 103 (dk_at dksX1_bestStart_1 9 rfl rfl)
theorem dX1_bestStart_36 : decode cX1_bestStart 36 = .ok (.invokestatic 54, 3) := dk_184 0 54 (dk_at dksX1_bestStart_1 12 rfl rfl)
theorem dX1_bestStart_39 : decode cX1_bestStart 39 = .ok (.ifCond .eq 7, 3) := dk_153 0 7 (dk_at dksX1_bestStart_1 15 rfl rfl)
theorem dX1_bestStart_42 : decode cX1_bestStart 42 = .ok (.iconst 1, 1) := dk_4 (dk_at dksX1_bestStart_1 18 rfl rfl)
theorem dX1_bestStart_43 : decode cX1_bestStart 43 = .ok (.goto 4, 3) := dk_167 0 4 (dk_at dksX1_bestStart_1 19 rfl rfl)
theorem dX1_bestStart_46 : decode cX1_bestStart 46 = .ok (.iconst 0, 1) := dk_3 (dk_at dksX1_bestStart_1 22 rfl rfl)
theorem dX1_bestStart_47 : decode cX1_bestStart 47 = .ok (.invokestatic 116, 3) := dk_184 0 116 (dk_at dksX1_bestStart_2 0 rfl rfl)
theorem dX1_bestStart_50 : decode cX1_bestStart 50 = .ok (.iload_n 1, 1) := dk_27 (dk_at dksX1_bestStart_2 3 rfl rfl)
theorem dX1_bestStart_51 : decode cX1_bestStart 51 = .ok (.iload_n 2, 1) := dk_28 (dk_at dksX1_bestStart_2 4 rfl rfl)
theorem dX1_bestStart_52 : decode cX1_bestStart 52 = .ok (.invokestatic 361, 3) := dk_184 1 105 (dk_at dksX1_bestStart_2 5 rfl rfl)
theorem dX1_bestStart_55 : decode cX1_bestStart 55 = .ok (.astore 5, 2) := dk_58 5 (dk_at dksX1_bestStart_2 8 rfl rfl)
theorem dX1_bestStart_57 : decode cX1_bestStart 57 = .ok (.iconst 0, 1) := dk_3 (dk_at dksX1_bestStart_2 10 rfl rfl)
theorem dX1_bestStart_58 : decode cX1_bestStart 58 = .ok (.istore 6, 2) := dk_54 6 (dk_at dksX1_bestStart_2 11 rfl rfl)
theorem dX1_bestStart_60 : decode cX1_bestStart 60 = .ok (.iconst (-1), 1) := dk_2 (dk_at dksX1_bestStart_2 13 rfl rfl)
theorem dX1_bestStart_61 : decode cX1_bestStart 61 = .ok (.istore 7, 2) := dk_54 7 (dk_at dksX1_bestStart_2 14 rfl rfl)
theorem dX1_bestStart_63 : decode cX1_bestStart 63 = .ok (.iconst 0, 1) := dk_3 (dk_at dksX1_bestStart_2 16 rfl rfl)
theorem dX1_bestStart_64 : decode cX1_bestStart 64 = .ok (.istore 8, 2) := dk_54 8 (dk_at dksX1_bestStart_2 17 rfl rfl)
theorem dX1_bestStart_66 : decode cX1_bestStart 66 = .ok (.iload 8, 2) := dk_21 8 (dk_at dksX1_bestStart_2 19 rfl rfl)
theorem dX1_bestStart_68 : decode cX1_bestStart 68 = .ok (.iload_n 3, 1) := dk_29 (dk_at dksX1_bestStart_2 21 rfl rfl)
theorem dX1_bestStart_69 : decode cX1_bestStart 69 = .ok (.if_icmp .ge 72, 3) := dk_162 0 72 (dk_at dksX1_bestStart_3 0 rfl rfl)
theorem dX1_bestStart_72 : decode cX1_bestStart 72 = .ok (.aload 4, 2) := dk_25 4 (dk_at dksX1_bestStart_3 3 rfl rfl)
theorem dX1_bestStart_74 : decode cX1_bestStart 74 = .ok (.new 106, 3) := dk_187 0 106 (dk_at dksX1_bestStart_3 5 rfl rfl)
theorem dX1_bestStart_77 : decode cX1_bestStart 77 = .ok (.dup, 1) := dk_89 (dk_at dksX1_bestStart_3 8 rfl rfl)
theorem dX1_bestStart_78 : decode cX1_bestStart 78 = .ok (.aload 4, 2) := dk_25 4 (dk_at dksX1_bestStart_3 9 rfl rfl)
theorem dX1_bestStart_80 : decode cX1_bestStart 80 = .ok (.getfield 161, 3) := dk_180 0 161 (dk_at dksX1_bestStart_3 11 rfl rfl)
theorem dX1_bestStart_83 : decode cX1_bestStart 83 = .ok (.iload 8, 2) := dk_21 8 (dk_at dksX1_bestStart_3 14 rfl rfl)
theorem dX1_bestStart_85 : decode cX1_bestStart 85 = .ok (.iadd, 1) := dk_96 (dk_at dksX1_bestStart_3 16 rfl rfl)
theorem dX1_bestStart_86 : decode cX1_bestStart 86 = .ok (.aload 5, 2) := dk_25 5 (dk_at dksX1_bestStart_3 17 rfl rfl)
theorem dX1_bestStart_88 : decode cX1_bestStart 88 = .ok (.invokespecial 365, 3) := dk_183 1 109 (dk_at dksX1_bestStart_3 19 rfl rfl)
theorem dX1_bestStart_91 : decode cX1_bestStart 91 = .ok (.aload 4, 2) := dk_25 4 (dk_at dksX1_bestStart_3 22 rfl rfl)
theorem dX1_bestStart_93 : decode cX1_bestStart 93 = .ok (.getfield 87, 3) := dk_180 0 87 (dk_at dksX1_bestStart_4 0 rfl rfl)
theorem dX1_bestStart_96 : decode cX1_bestStart 96 = .ok (.aload 4, 2) := dk_25 4 (dk_at dksX1_bestStart_4 3 rfl rfl)
theorem dX1_bestStart_98 : decode cX1_bestStart 98 = .ok (.getfield 161, 3) := dk_180 0 161 (dk_at dksX1_bestStart_4 5 rfl rfl)
theorem dX1_bestStart_101 : decode cX1_bestStart 101 = .ok (.iload 8, 2) := dk_21 8 (dk_at dksX1_bestStart_4 8 rfl rfl)
theorem dX1_bestStart_103 : decode cX1_bestStart 103 = .ok (.iadd, 1) := dk_96 (dk_at dksX1_bestStart_4 10 rfl rfl)
theorem dX1_bestStart_104 : decode cX1_bestStart 104 = .ok (.aload 4, 2) := dk_25 4 (dk_at dksX1_bestStart_4 11 rfl rfl)
theorem dX1_bestStart_106 : decode cX1_bestStart 106 = .ok (.getfield 158, 3) := dk_180 0 158 (dk_at dksX1_bestStart_4 13 rfl rfl)
theorem dX1_bestStart_109 : decode cX1_bestStart 109 = .ok (.invokevirtual 354, 3) := dk_182 1 98 (dk_at dksX1_bestStart_4 16 rfl rfl)
theorem dX1_bestStart_112 : decode cX1_bestStart 112 = .ok (.invokevirtual 267, 3) := dk_182 1 11 (dk_at dksX1_bestStart_4 19 rfl rfl)
theorem dX1_bestStart_115 : decode cX1_bestStart 115 = .ok (.istore 9, 2) := dk_54 9 (dk_at dksX1_bestStart_4 22 rfl rfl)
theorem dX1_bestStart_117 : decode cX1_bestStart 117 = .ok (.iload 9, 2) := dk_21 9 (dk_at dksX1_bestStart_5 0 rfl rfl)
theorem dX1_bestStart_119 : decode cX1_bestStart 119 = .ok (.iload 7, 2) := dk_21 7 (dk_at dksX1_bestStart_5 2 rfl rfl)
theorem dX1_bestStart_121 : decode cX1_bestStart 121 = .ok (.if_icmp .gt 6, 3) := dk_163 0 6 (dk_at dksX1_bestStart_5 4 rfl rfl)
theorem dX1_bestStart_124 : decode cX1_bestStart 124 = .ok (.goto 11, 3) := dk_167 0 11 (dk_at dksX1_bestStart_5 7 rfl rfl)
theorem dX1_bestStart_127 : decode cX1_bestStart 127 = .ok (.iload 8, 2) := dk_21 8 (dk_at dksX1_bestStart_5 10 rfl rfl)
theorem dX1_bestStart_129 : decode cX1_bestStart 129 = .ok (.istore 6, 2) := dk_54 6 (dk_at dksX1_bestStart_5 12 rfl rfl)
theorem dX1_bestStart_131 : decode cX1_bestStart 131 = .ok (.iload 9, 2) := dk_21 9 (dk_at dksX1_bestStart_5 14 rfl rfl)
theorem dX1_bestStart_133 : decode cX1_bestStart 133 = .ok (.istore 7, 2) := dk_54 7 (dk_at dksX1_bestStart_5 16 rfl rfl)
theorem dX1_bestStart_135 : decode cX1_bestStart 135 = .ok (.iinc 8 1, 3) := dk_132 8 1 (dk_at dksX1_bestStart_5 18 rfl rfl)
theorem dX1_bestStart_138 : decode cX1_bestStart 138 = .ok (.goto (-72), 3) := dk_167 255 184 (dk_at dksX1_bestStart_5 21 rfl rfl)
theorem dX1_bestStart_141 : decode cX1_bestStart 141 = .ok (.iload 6, 2) := dk_21 6 (dk_at dksX1_bestStart_6 0 rfl rfl)
theorem dX1_bestStart_143 : decode cX1_bestStart 143 = .ok (.ireturn, 1) := dk_172 (dk_at dksX1_bestStart_6 2 rfl rfl)
abbrev cX1_leastStorm : ByteArray := prog_1_method_63_code
def yX1_leastStorm : MethodName := ⟨RX1, "leastStorm", "(II)I"⟩
def dkwX1_leastStorm_2 : List UInt8 := [182, 1, 87, 21, 5, 162, 0, 6, 21, 6, 172, 132, 6, 1, 167, 255, 228, 2, 172]
abbrev dktX1_leastStorm_2 : List UInt8 := dkwX1_leastStorm_2 ++ []
def dkwX1_leastStorm_1 : List UInt8 := [182, 1, 87, 54, 5, 4, 54, 6, 21, 6, 16, 9, 163, 0, 27, 42, 27, 28, 21, 6, 21, 4]
abbrev dktX1_leastStorm_1 : List UInt8 := dkwX1_leastStorm_1 ++ dktX1_leastStorm_2
def dkwX1_leastStorm_0 : List UInt8 := [42, 27, 28, 182, 1, 80, 78, 45, 180, 0, 87, 180, 0, 190, 28, 46, 54, 4, 42, 27, 28, 3, 21, 4]
abbrev dktX1_leastStorm_0 : List UInt8 := dkwX1_leastStorm_0 ++ dktX1_leastStorm_1
theorem dksX1_leastStorm_0 : cX1_leastStorm.data.toList.drop 0 = dktX1_leastStorm_0 := by decide +kernel
theorem dksX1_leastStorm_1 : cX1_leastStorm.data.toList.drop 24 = dktX1_leastStorm_1 := dk_seg dksX1_leastStorm_0 24 rfl rfl
theorem dksX1_leastStorm_2 : cX1_leastStorm.data.toList.drop 46 = dktX1_leastStorm_2 := dk_seg dksX1_leastStorm_1 22 rfl rfl
theorem dX1_leastStorm_0 : decode cX1_leastStorm 0 = .ok (.aload_n 0, 1) := dk_42 (dk_at dksX1_leastStorm_0 0 rfl rfl)
theorem dX1_leastStorm_1 : decode cX1_leastStorm 1 = .ok (.iload_n 1, 1) := dk_27 (dk_at dksX1_leastStorm_0 1 rfl rfl)
theorem dX1_leastStorm_2 : decode cX1_leastStorm 2 = .ok (.iload_n 2, 1) := dk_28 (dk_at dksX1_leastStorm_0 2 rfl rfl)
theorem dX1_leastStorm_3 : decode cX1_leastStorm 3 = .ok (.invokevirtual 336, 3) := dk_182 1 80 (dk_at dksX1_leastStorm_0 3 rfl rfl)
theorem dX1_leastStorm_6 : decode cX1_leastStorm 6 = .ok (.astore_n 3, 1) := dk_78 (dk_at dksX1_leastStorm_0 6 rfl rfl)
theorem dX1_leastStorm_7 : decode cX1_leastStorm 7 = .ok (.aload_n 3, 1) := dk_45 (dk_at dksX1_leastStorm_0 7 rfl rfl)
theorem dX1_leastStorm_8 : decode cX1_leastStorm 8 = .ok (.getfield 87, 3) := dk_180 0 87 (dk_at dksX1_leastStorm_0 8 rfl rfl)
theorem dX1_leastStorm_11 : decode cX1_leastStorm 11 = .ok (.getfield 190, 3) := dk_180 0 190 (dk_at dksX1_leastStorm_0 11 rfl rfl)
theorem dX1_leastStorm_14 : decode cX1_leastStorm 14 = .ok (.iload_n 2, 1) := dk_28 (dk_at dksX1_leastStorm_0 14 rfl rfl)
theorem dX1_leastStorm_15 : decode cX1_leastStorm 15 = .ok (.iaload, 1) := dk_46 (dk_at dksX1_leastStorm_0 15 rfl rfl)
theorem dX1_leastStorm_16 : decode cX1_leastStorm 16 = .ok (.istore 4, 2) := dk_54 4 (dk_at dksX1_leastStorm_0 16 rfl rfl)
theorem dX1_leastStorm_18 : decode cX1_leastStorm 18 = .ok (.aload_n 0, 1) := dk_42 (dk_at dksX1_leastStorm_0 18 rfl rfl)
theorem dX1_leastStorm_19 : decode cX1_leastStorm 19 = .ok (.iload_n 1, 1) := dk_27 (dk_at dksX1_leastStorm_0 19 rfl rfl)
theorem dX1_leastStorm_20 : decode cX1_leastStorm 20 = .ok (.iload_n 2, 1) := dk_28 (dk_at dksX1_leastStorm_0 20 rfl rfl)
theorem dX1_leastStorm_21 : decode cX1_leastStorm 21 = .ok (.iconst 0, 1) := dk_3 (dk_at dksX1_leastStorm_0 21 rfl rfl)
theorem dX1_leastStorm_22 : decode cX1_leastStorm 22 = .ok (.iload 4, 2) := dk_21 4 (dk_at dksX1_leastStorm_0 22 rfl rfl)
theorem dX1_leastStorm_24 : decode cX1_leastStorm 24 = .ok (.invokevirtual 343, 3) := dk_182 1 87 (dk_at dksX1_leastStorm_1 0 rfl rfl)
theorem dX1_leastStorm_27 : decode cX1_leastStorm 27 = .ok (.istore 5, 2) := dk_54 5 (dk_at dksX1_leastStorm_1 3 rfl rfl)
theorem dX1_leastStorm_29 : decode cX1_leastStorm 29 = .ok (.iconst 1, 1) := dk_4 (dk_at dksX1_leastStorm_1 5 rfl rfl)
theorem dX1_leastStorm_30 : decode cX1_leastStorm 30 = .ok (.istore 6, 2) := dk_54 6 (dk_at dksX1_leastStorm_1 6 rfl rfl)
theorem dX1_leastStorm_32 : decode cX1_leastStorm 32 = .ok (.iload 6, 2) := dk_21 6 (dk_at dksX1_leastStorm_1 8 rfl rfl)
theorem dX1_leastStorm_34 : decode cX1_leastStorm 34 = .ok (.bipush 9, 2) := dk_16 9 (dk_at dksX1_leastStorm_1 10 rfl rfl)
theorem dX1_leastStorm_36 : decode cX1_leastStorm 36 = .ok (.if_icmp .gt 27, 3) := dk_163 0 27 (dk_at dksX1_leastStorm_1 12 rfl rfl)
theorem dX1_leastStorm_39 : decode cX1_leastStorm 39 = .ok (.aload_n 0, 1) := dk_42 (dk_at dksX1_leastStorm_1 15 rfl rfl)
theorem dX1_leastStorm_40 : decode cX1_leastStorm 40 = .ok (.iload_n 1, 1) := dk_27 (dk_at dksX1_leastStorm_1 16 rfl rfl)
theorem dX1_leastStorm_41 : decode cX1_leastStorm 41 = .ok (.iload_n 2, 1) := dk_28 (dk_at dksX1_leastStorm_1 17 rfl rfl)
theorem dX1_leastStorm_42 : decode cX1_leastStorm 42 = .ok (.iload 6, 2) := dk_21 6 (dk_at dksX1_leastStorm_1 18 rfl rfl)
theorem dX1_leastStorm_44 : decode cX1_leastStorm 44 = .ok (.iload 4, 2) := dk_21 4 (dk_at dksX1_leastStorm_1 20 rfl rfl)
theorem dX1_leastStorm_46 : decode cX1_leastStorm 46 = .ok (.invokevirtual 343, 3) := dk_182 1 87 (dk_at dksX1_leastStorm_2 0 rfl rfl)
theorem dX1_leastStorm_49 : decode cX1_leastStorm 49 = .ok (.iload 5, 2) := dk_21 5 (dk_at dksX1_leastStorm_2 3 rfl rfl)
theorem dX1_leastStorm_51 : decode cX1_leastStorm 51 = .ok (.if_icmp .ge 6, 3) := dk_162 0 6 (dk_at dksX1_leastStorm_2 5 rfl rfl)
theorem dX1_leastStorm_54 : decode cX1_leastStorm 54 = .ok (.iload 6, 2) := dk_21 6 (dk_at dksX1_leastStorm_2 8 rfl rfl)
theorem dX1_leastStorm_56 : decode cX1_leastStorm 56 = .ok (.ireturn, 1) := dk_172 (dk_at dksX1_leastStorm_2 10 rfl rfl)
theorem dX1_leastStorm_57 : decode cX1_leastStorm 57 = .ok (.iinc 6 1, 3) := dk_132 6 1 (dk_at dksX1_leastStorm_2 11 rfl rfl)
theorem dX1_leastStorm_60 : decode cX1_leastStorm 60 = .ok (.goto (-28), 3) := dk_167 255 228 (dk_at dksX1_leastStorm_2 14 rfl rfl)
theorem dX1_leastStorm_63 : decode cX1_leastStorm 63 = .ok (.iconst (-1), 1) := dk_2 (dk_at dksX1_leastStorm_2 17 rfl rfl)
theorem dX1_leastStorm_64 : decode cX1_leastStorm 64 = .ok (.ireturn, 1) := dk_172 (dk_at dksX1_leastStorm_2 18 rfl rfl)
abbrev cX1_share : ByteArray := prog_1_method_64_code
def yX1_share : MethodName := ⟨RX1, "share", "()F"⟩
def dkwX1_share_1 : List UInt8 := [43, 180, 0, 167, 134, 110, 174]
abbrev dktX1_share_1 : List UInt8 := dkwX1_share_1 ++ []
def dkwX1_share_0 : List UInt8 := [42, 182, 0, 72, 180, 0, 87, 76, 43, 180, 0, 167, 154, 0, 7, 11, 167, 0, 14, 43, 180, 0, 170, 134]
abbrev dktX1_share_0 : List UInt8 := dkwX1_share_0 ++ dktX1_share_1
theorem dksX1_share_0 : cX1_share.data.toList.drop 0 = dktX1_share_0 := by decide +kernel
theorem dksX1_share_1 : cX1_share.data.toList.drop 24 = dktX1_share_1 := dk_seg dksX1_share_0 24 rfl rfl
theorem dX1_share_0 : decode cX1_share 0 = .ok (.aload_n 0, 1) := dk_42 (dk_at dksX1_share_0 0 rfl rfl)
theorem dX1_share_1 : decode cX1_share 1 = .ok (.invokevirtual 72, 3) := dk_182 0 72 (dk_at dksX1_share_0 1 rfl rfl)
theorem dX1_share_4 : decode cX1_share 4 = .ok (.getfield 87, 3) := dk_180 0 87 (dk_at dksX1_share_0 4 rfl rfl)
theorem dX1_share_7 : decode cX1_share 7 = .ok (.astore_n 1, 1) := dk_76 (dk_at dksX1_share_0 7 rfl rfl)
theorem dX1_share_8 : decode cX1_share 8 = .ok (.aload_n 1, 1) := dk_43 (dk_at dksX1_share_0 8 rfl rfl)
theorem dX1_share_9 : decode cX1_share 9 = .ok (.getfield 167, 3) := dk_180 0 167 (dk_at dksX1_share_0 9 rfl rfl)
theorem dX1_share_12 : decode cX1_share 12 = .ok (.ifCond .ne 7, 3) := dk_154 0 7 (dk_at dksX1_share_0 12 rfl rfl)
theorem dX1_share_15 : decode cX1_share 15 = .ok (.fconst 0, 1) := dk_11 (dk_at dksX1_share_0 15 rfl rfl)
theorem dX1_share_16 : decode cX1_share 16 = .ok (.goto 14, 3) := dk_167 0 14 (dk_at dksX1_share_0 16 rfl rfl)
theorem dX1_share_19 : decode cX1_share 19 = .ok (.aload_n 1, 1) := dk_43 (dk_at dksX1_share_0 19 rfl rfl)
theorem dX1_share_20 : decode cX1_share 20 = .ok (.getfield 170, 3) := dk_180 0 170 (dk_at dksX1_share_0 20 rfl rfl)
theorem dX1_share_23 : decode cX1_share 23 = .ok (.i2f, 1) := dk_134 (dk_at dksX1_share_0 23 rfl rfl)
theorem dX1_share_24 : decode cX1_share 24 = .ok (.aload_n 1, 1) := dk_43 (dk_at dksX1_share_1 0 rfl rfl)
theorem dX1_share_25 : decode cX1_share 25 = .ok (.getfield 167, 3) := dk_180 0 167 (dk_at dksX1_share_1 1 rfl rfl)
theorem dX1_share_28 : decode cX1_share 28 = .ok (.i2f, 1) := dk_134 (dk_at dksX1_share_1 4 rfl rfl)
theorem dX1_share_29 : decode cX1_share 29 = .ok (.fdiv, 1) := dk_110 (dk_at dksX1_share_1 5 rfl rfl)
theorem dX1_share_30 : decode cX1_share 30 = .ok (.freturn, 1) := dk_174 (dk_at dksX1_share_1 6 rfl rfl)
abbrev cX1_meanHours : ByteArray := prog_1_method_65_code
def yX1_meanHours : MethodName := ⟨RX1, "meanHours", "()D"⟩
def dkwX1_meanHours_3 : List UInt8 := [182, 0, 164, 154, 0, 7, 14, 167, 0, 11, 28, 135, 43, 182, 0, 164, 135, 111, 175]
abbrev dktX1_meanHours_3 : List UInt8 := dkwX1_meanHours_3 ++ []
def dkwX1_meanHours_2 : List UInt8 := [3, 167, 0, 16, 25, 4, 180, 0, 237, 25, 4, 180, 0, 234, 100, 4, 96, 96, 61, 167, 255, 207, 43]
abbrev dktX1_meanHours_2 : List UInt8 := dkwX1_meanHours_2 ++ dktX1_meanHours_3
def dkwX1_meanHours_1 : List UInt8 := [153, 0, 46, 45, 185, 1, 58, 1, 0, 192, 0, 106, 58, 4, 28, 25, 4, 180, 0, 237, 2, 160, 0, 7]
abbrev dktX1_meanHours_1 : List UInt8 := dkwX1_meanHours_1 ++ dktX1_meanHours_2
def dkwX1_meanHours_0 : List UInt8 := [42, 182, 0, 72, 76, 3, 61, 43, 180, 0, 94, 185, 1, 48, 1, 0, 78, 45, 185, 1, 52, 1, 0]
abbrev dktX1_meanHours_0 : List UInt8 := dkwX1_meanHours_0 ++ dktX1_meanHours_1
theorem dksX1_meanHours_0 : cX1_meanHours.data.toList.drop 0 = dktX1_meanHours_0 := by decide +kernel
theorem dksX1_meanHours_1 : cX1_meanHours.data.toList.drop 23 = dktX1_meanHours_1 := dk_seg dksX1_meanHours_0 23 rfl rfl
theorem dksX1_meanHours_2 : cX1_meanHours.data.toList.drop 47 = dktX1_meanHours_2 := dk_seg dksX1_meanHours_1 24 rfl rfl
theorem dksX1_meanHours_3 : cX1_meanHours.data.toList.drop 70 = dktX1_meanHours_3 := dk_seg dksX1_meanHours_2 23 rfl rfl
theorem dX1_meanHours_0 : decode cX1_meanHours 0 = .ok (.aload_n 0, 1) := dk_42 (dk_at dksX1_meanHours_0 0 rfl rfl)
theorem dX1_meanHours_1 : decode cX1_meanHours 1 = .ok (.invokevirtual 72, 3) := dk_182 0 72 (dk_at dksX1_meanHours_0 1 rfl rfl)
theorem dX1_meanHours_4 : decode cX1_meanHours 4 = .ok (.astore_n 1, 1) := dk_76 (dk_at dksX1_meanHours_0 4 rfl rfl)
theorem dX1_meanHours_5 : decode cX1_meanHours 5 = .ok (.iconst 0, 1) := dk_3 (dk_at dksX1_meanHours_0 5 rfl rfl)
theorem dX1_meanHours_6 : decode cX1_meanHours 6 = .ok (.istore_n 2, 1) := dk_61 (dk_at dksX1_meanHours_0 6 rfl rfl)
theorem dX1_meanHours_7 : decode cX1_meanHours 7 = .ok (.aload_n 1, 1) := dk_43 (dk_at dksX1_meanHours_0 7 rfl rfl)
theorem dX1_meanHours_8 : decode cX1_meanHours 8 = .ok (.getfield 94, 3) := dk_180 0 94 (dk_at dksX1_meanHours_0 8 rfl rfl)
theorem dX1_meanHours_11 : decode cX1_meanHours 11 = .ok (.invokeinterface 304 1, 5) := by decide +kernel
theorem dX1_meanHours_16 : decode cX1_meanHours 16 = .ok (.astore_n 3, 1) := dk_78 (dk_at dksX1_meanHours_0 16 rfl rfl)
theorem dX1_meanHours_17 : decode cX1_meanHours 17 = .ok (.aload_n 3, 1) := dk_45 (dk_at dksX1_meanHours_0 17 rfl rfl)
theorem dX1_meanHours_18 : decode cX1_meanHours 18 = .ok (.invokeinterface 308 1, 5) := by decide +kernel
theorem dX1_meanHours_23 : decode cX1_meanHours 23 = .ok (.ifCond .eq 46, 3) := dk_153 0 46 (dk_at dksX1_meanHours_1 0 rfl rfl)
theorem dX1_meanHours_26 : decode cX1_meanHours 26 = .ok (.aload_n 3, 1) := dk_45 (dk_at dksX1_meanHours_1 3 rfl rfl)
theorem dX1_meanHours_27 : decode cX1_meanHours 27 = .ok (.invokeinterface 314 1, 5) := by decide +kernel
theorem dX1_meanHours_32 : decode cX1_meanHours 32 = .ok (.checkcast 106, 3) := dk_192 0 106 (dk_at dksX1_meanHours_1 9 rfl rfl)
theorem dX1_meanHours_35 : decode cX1_meanHours 35 = .ok (.astore 4, 2) := dk_58 4 (dk_at dksX1_meanHours_1 12 rfl rfl)
theorem dX1_meanHours_37 : decode cX1_meanHours 37 = .ok (.iload_n 2, 1) := dk_28 (dk_at dksX1_meanHours_1 14 rfl rfl)
theorem dX1_meanHours_38 : decode cX1_meanHours 38 = .ok (.aload 4, 2) := dk_25 4 (dk_at dksX1_meanHours_1 15 rfl rfl)
theorem dX1_meanHours_40 : decode cX1_meanHours 40 = .ok (.getfield 237, 3) := dk_180 0 237 (dk_at dksX1_meanHours_1 17 rfl rfl)
theorem dX1_meanHours_43 : decode cX1_meanHours 43 = .ok (.iconst (-1), 1) := dk_2 (dk_at dksX1_meanHours_1 20 rfl rfl)
theorem dX1_meanHours_44 : decode cX1_meanHours 44 = .ok (.if_icmp .ne 7, 3) := dk_160 0 7 (dk_at dksX1_meanHours_1 21 rfl rfl)
theorem dX1_meanHours_47 : decode cX1_meanHours 47 = .ok (.iconst 0, 1) := dk_3 (dk_at dksX1_meanHours_2 0 rfl rfl)
theorem dX1_meanHours_48 : decode cX1_meanHours 48 = .ok (.goto 16, 3) := dk_167 0 16 (dk_at dksX1_meanHours_2 1 rfl rfl)
theorem dX1_meanHours_51 : decode cX1_meanHours 51 = .ok (.aload 4, 2) := dk_25 4 (dk_at dksX1_meanHours_2 4 rfl rfl)
theorem dX1_meanHours_53 : decode cX1_meanHours 53 = .ok (.getfield 237, 3) := dk_180 0 237 (dk_at dksX1_meanHours_2 6 rfl rfl)
theorem dX1_meanHours_56 : decode cX1_meanHours 56 = .ok (.aload 4, 2) := dk_25 4 (dk_at dksX1_meanHours_2 9 rfl rfl)
theorem dX1_meanHours_58 : decode cX1_meanHours 58 = .ok (.getfield 234, 3) := dk_180 0 234 (dk_at dksX1_meanHours_2 11 rfl rfl)
theorem dX1_meanHours_61 : decode cX1_meanHours 61 = .ok (.isub, 1) := dk_100 (dk_at dksX1_meanHours_2 14 rfl rfl)
theorem dX1_meanHours_62 : decode cX1_meanHours 62 = .ok (.iconst 1, 1) := dk_4 (dk_at dksX1_meanHours_2 15 rfl rfl)
theorem dX1_meanHours_63 : decode cX1_meanHours 63 = .ok (.iadd, 1) := dk_96 (dk_at dksX1_meanHours_2 16 rfl rfl)
theorem dX1_meanHours_64 : decode cX1_meanHours 64 = .ok (.iadd, 1) := dk_96 (dk_at dksX1_meanHours_2 17 rfl rfl)
theorem dX1_meanHours_65 : decode cX1_meanHours 65 = .ok (.istore_n 2, 1) := dk_61 (dk_at dksX1_meanHours_2 18 rfl rfl)
theorem dX1_meanHours_66 : decode cX1_meanHours 66 = .ok (.goto (-49), 3) := dk_167 255 207 (dk_at dksX1_meanHours_2 19 rfl rfl)
theorem dX1_meanHours_69 : decode cX1_meanHours 69 = .ok (.aload_n 1, 1) := dk_43 (dk_at dksX1_meanHours_2 22 rfl rfl)
theorem dX1_meanHours_70 : decode cX1_meanHours 70 = .ok (.invokevirtual 164, 3) := dk_182 0 164 (dk_at dksX1_meanHours_3 0 rfl rfl)
theorem dX1_meanHours_73 : decode cX1_meanHours 73 = .ok (.ifCond .ne 7, 3) := dk_154 0 7 (dk_at dksX1_meanHours_3 3 rfl rfl)
theorem dX1_meanHours_76 : decode cX1_meanHours 76 = .ok (.dconst 0, 1) := dk_14 (dk_at dksX1_meanHours_3 6 rfl rfl)
theorem dX1_meanHours_77 : decode cX1_meanHours 77 = .ok (.goto 11, 3) := dk_167 0 11 (dk_at dksX1_meanHours_3 7 rfl rfl)
theorem dX1_meanHours_80 : decode cX1_meanHours 80 = .ok (.iload_n 2, 1) := dk_28 (dk_at dksX1_meanHours_3 10 rfl rfl)
theorem dX1_meanHours_81 : decode cX1_meanHours 81 = .ok (.i2d, 1) := dk_135 (dk_at dksX1_meanHours_3 11 rfl rfl)
theorem dX1_meanHours_82 : decode cX1_meanHours 82 = .ok (.aload_n 1, 1) := dk_43 (dk_at dksX1_meanHours_3 12 rfl rfl)
theorem dX1_meanHours_83 : decode cX1_meanHours 83 = .ok (.invokevirtual 164, 3) := dk_182 0 164 (dk_at dksX1_meanHours_3 13 rfl rfl)
theorem dX1_meanHours_86 : decode cX1_meanHours 86 = .ok (.i2d, 1) := dk_135 (dk_at dksX1_meanHours_3 16 rfl rfl)
theorem dX1_meanHours_87 : decode cX1_meanHours 87 = .ok (.ddiv, 1) := dk_111 (dk_at dksX1_meanHours_3 17 rfl rfl)
theorem dX1_meanHours_88 : decode cX1_meanHours 88 = .ok (.dreturn, 1) := dk_175 (dk_at dksX1_meanHours_3 18 rfl rfl)
abbrev cX1_writeMessage : ByteArray := prog_1_method_67_code
def yX1_writeMessage : MethodName := ⟨RX1, "writeMessage", "(I)I"⟩
def dkwX1_writeMessage_3 : List UInt8 := [182, 1, 123, 132, 6, 1, 167, 255, 233, 132, 3, 1, 167, 255, 192, 42, 180, 0, 47, 182, 1, 126, 172]
abbrev dktX1_writeMessage_3 : List UInt8 := dkwX1_writeMessage_3 ++ []
def dkwX1_writeMessage_2 : List UInt8 := [54, 5, 3, 54, 6, 21, 6, 21, 5, 162, 0, 22, 25, 4, 21, 6, 46, 54, 7, 42, 21, 7]
abbrev dktX1_writeMessage_2 : List UInt8 := dkwX1_writeMessage_2 ++ dktX1_writeMessage_3
def dkwX1_writeMessage_1 : List UInt8 := [158, 0, 13, 42, 180, 0, 47, 16, 47, 182, 1, 112, 87, 44, 180, 0, 252, 29, 50, 58, 4, 25, 4, 190]
abbrev dktX1_writeMessage_1 : List UInt8 := dkwX1_writeMessage_1 ++ dktX1_writeMessage_2
def dkwX1_writeMessage_0 : List UInt8 := [42, 27, 182, 0, 102, 77, 42, 180, 0, 47, 3, 182, 1, 119, 3, 62, 29, 6, 162, 0, 65, 29]
abbrev dktX1_writeMessage_0 : List UInt8 := dkwX1_writeMessage_0 ++ dktX1_writeMessage_1
theorem dksX1_writeMessage_0 : cX1_writeMessage.data.toList.drop 0 = dktX1_writeMessage_0 := by decide +kernel
theorem dksX1_writeMessage_1 : cX1_writeMessage.data.toList.drop 22 = dktX1_writeMessage_1 := dk_seg dksX1_writeMessage_0 22 rfl rfl
theorem dksX1_writeMessage_2 : cX1_writeMessage.data.toList.drop 46 = dktX1_writeMessage_2 := dk_seg dksX1_writeMessage_1 24 rfl rfl
theorem dksX1_writeMessage_3 : cX1_writeMessage.data.toList.drop 68 = dktX1_writeMessage_3 := dk_seg dksX1_writeMessage_2 22 rfl rfl
theorem dX1_writeMessage_0 : decode cX1_writeMessage 0 = .ok (.aload_n 0, 1) := dk_42 (dk_at dksX1_writeMessage_0 0 rfl rfl)
theorem dX1_writeMessage_1 : decode cX1_writeMessage 1 = .ok (.iload_n 1, 1) := dk_27 (dk_at dksX1_writeMessage_0 1 rfl rfl)
theorem dX1_writeMessage_2 : decode cX1_writeMessage 2 = .ok (.invokevirtual 102, 3) := dk_182 0 102 (dk_at dksX1_writeMessage_0 2 rfl rfl)
theorem dX1_writeMessage_5 : decode cX1_writeMessage 5 = .ok (.astore_n 2, 1) := dk_77 (dk_at dksX1_writeMessage_0 5 rfl rfl)
theorem dX1_writeMessage_6 : decode cX1_writeMessage 6 = .ok (.aload_n 0, 1) := dk_42 (dk_at dksX1_writeMessage_0 6 rfl rfl)
theorem dX1_writeMessage_7 : decode cX1_writeMessage 7 = .ok (.getfield 47, 3) := dk_180 0 47 (dk_at dksX1_writeMessage_0 7 rfl rfl)
theorem dX1_writeMessage_10 : decode cX1_writeMessage 10 = .ok (.iconst 0, 1) := dk_3 (dk_at dksX1_writeMessage_0 10 rfl rfl)
theorem dX1_writeMessage_11 : decode cX1_writeMessage 11 = .ok (.invokevirtual 375, 3) := dk_182 1 119 (dk_at dksX1_writeMessage_0 11 rfl rfl)
theorem dX1_writeMessage_14 : decode cX1_writeMessage 14 = .ok (.iconst 0, 1) := dk_3 (dk_at dksX1_writeMessage_0 14 rfl rfl)
theorem dX1_writeMessage_15 : decode cX1_writeMessage 15 = .ok (.istore_n 3, 1) := dk_62 (dk_at dksX1_writeMessage_0 15 rfl rfl)
theorem dX1_writeMessage_16 : decode cX1_writeMessage 16 = .ok (.iload_n 3, 1) := dk_29 (dk_at dksX1_writeMessage_0 16 rfl rfl)
theorem dX1_writeMessage_17 : decode cX1_writeMessage 17 = .ok (.iconst 3, 1) := dk_6 (dk_at dksX1_writeMessage_0 17 rfl rfl)
theorem dX1_writeMessage_18 : decode cX1_writeMessage 18 = .ok (.if_icmp .ge 65, 3) := dk_162 0 65 (dk_at dksX1_writeMessage_0 18 rfl rfl)
theorem dX1_writeMessage_21 : decode cX1_writeMessage 21 = .ok (.iload_n 3, 1) := dk_29 (dk_at dksX1_writeMessage_0 21 rfl rfl)
theorem dX1_writeMessage_22 : decode cX1_writeMessage 22 = .ok (.ifCond .le 13, 3) := dk_158 0 13 (dk_at dksX1_writeMessage_1 0 rfl rfl)
theorem dX1_writeMessage_25 : decode cX1_writeMessage 25 = .ok (.aload_n 0, 1) := dk_42 (dk_at dksX1_writeMessage_1 3 rfl rfl)
theorem dX1_writeMessage_26 : decode cX1_writeMessage 26 = .ok (.getfield 47, 3) := dk_180 0 47 (dk_at dksX1_writeMessage_1 4 rfl rfl)
theorem dX1_writeMessage_29 : decode cX1_writeMessage 29 = .ok (.bipush 47, 2) := dk_16 47 (dk_at dksX1_writeMessage_1 7 rfl rfl)
theorem dX1_writeMessage_31 : decode cX1_writeMessage 31 = .ok (.invokevirtual 368, 3) := dk_182 1 112 (dk_at dksX1_writeMessage_1 9 rfl rfl)
theorem dX1_writeMessage_34 : decode cX1_writeMessage 34 = .ok (.pop, 1) := dk_87 (dk_at dksX1_writeMessage_1 12 rfl rfl)
theorem dX1_writeMessage_35 : decode cX1_writeMessage 35 = .ok (.aload_n 2, 1) := dk_44 (dk_at dksX1_writeMessage_1 13 rfl rfl)
theorem dX1_writeMessage_36 : decode cX1_writeMessage 36 = .ok (.getfield 252, 3) := dk_180 0 252 (dk_at dksX1_writeMessage_1 14 rfl rfl)
theorem dX1_writeMessage_39 : decode cX1_writeMessage 39 = .ok (.iload_n 3, 1) := dk_29 (dk_at dksX1_writeMessage_1 17 rfl rfl)
theorem dX1_writeMessage_40 : decode cX1_writeMessage 40 = .ok (.aaload, 1) := dk_50 (dk_at dksX1_writeMessage_1 18 rfl rfl)
theorem dX1_writeMessage_41 : decode cX1_writeMessage 41 = .ok (.astore 4, 2) := dk_58 4 (dk_at dksX1_writeMessage_1 19 rfl rfl)
theorem dX1_writeMessage_43 : decode cX1_writeMessage 43 = .ok (.aload 4, 2) := dk_25 4 (dk_at dksX1_writeMessage_1 21 rfl rfl)
theorem dX1_writeMessage_45 : decode cX1_writeMessage 45 = .ok (.arraylength, 1) := dk_190 (dk_at dksX1_writeMessage_1 23 rfl rfl)
theorem dX1_writeMessage_46 : decode cX1_writeMessage 46 = .ok (.istore 5, 2) := dk_54 5 (dk_at dksX1_writeMessage_2 0 rfl rfl)
theorem dX1_writeMessage_48 : decode cX1_writeMessage 48 = .ok (.iconst 0, 1) := dk_3 (dk_at dksX1_writeMessage_2 2 rfl rfl)
theorem dX1_writeMessage_49 : decode cX1_writeMessage 49 = .ok (.istore 6, 2) := dk_54 6 (dk_at dksX1_writeMessage_2 3 rfl rfl)
theorem dX1_writeMessage_51 : decode cX1_writeMessage 51 = .ok (.iload 6, 2) := dk_21 6 (dk_at dksX1_writeMessage_2 5 rfl rfl)
theorem dX1_writeMessage_53 : decode cX1_writeMessage 53 = .ok (.iload 5, 2) := dk_21 5 (dk_at dksX1_writeMessage_2 7 rfl rfl)
theorem dX1_writeMessage_55 : decode cX1_writeMessage 55 = .ok (.if_icmp .ge 22, 3) := dk_162 0 22 (dk_at dksX1_writeMessage_2 9 rfl rfl)
theorem dX1_writeMessage_58 : decode cX1_writeMessage 58 = .ok (.aload 4, 2) := dk_25 4 (dk_at dksX1_writeMessage_2 12 rfl rfl)
theorem dX1_writeMessage_60 : decode cX1_writeMessage 60 = .ok (.iload 6, 2) := dk_21 6 (dk_at dksX1_writeMessage_2 14 rfl rfl)
theorem dX1_writeMessage_62 : decode cX1_writeMessage 62 = .ok (.iaload, 1) := dk_46 (dk_at dksX1_writeMessage_2 16 rfl rfl)
theorem dX1_writeMessage_63 : decode cX1_writeMessage 63 = .ok (.istore 7, 2) := dk_54 7 (dk_at dksX1_writeMessage_2 17 rfl rfl)
theorem dX1_writeMessage_65 : decode cX1_writeMessage 65 = .ok (.aload_n 0, 1) := dk_42 (dk_at dksX1_writeMessage_2 19 rfl rfl)
theorem dX1_writeMessage_66 : decode cX1_writeMessage 66 = .ok (.iload 7, 2) := dk_21 7 (dk_at dksX1_writeMessage_2 20 rfl rfl)
theorem dX1_writeMessage_68 : decode cX1_writeMessage 68 = .ok (.invokevirtual 379, 3) := dk_182 1 123 (dk_at dksX1_writeMessage_3 0 rfl rfl)
theorem dX1_writeMessage_71 : decode cX1_writeMessage 71 = .ok (.iinc 6 1, 3) := dk_132 6 1 (dk_at dksX1_writeMessage_3 3 rfl rfl)
theorem dX1_writeMessage_74 : decode cX1_writeMessage 74 = .ok (.goto (-23), 3) := dk_167 255 233 (dk_at dksX1_writeMessage_3 6 rfl rfl)
theorem dX1_writeMessage_77 : decode cX1_writeMessage 77 = .ok (.iinc 3 1, 3) := dk_132 3 1 (dk_at dksX1_writeMessage_3 9 rfl rfl)
theorem dX1_writeMessage_80 : decode cX1_writeMessage 80 = .ok (.goto (-64), 3) := dk_167 255 192 (dk_at dksX1_writeMessage_3 12 rfl rfl)
theorem dX1_writeMessage_83 : decode cX1_writeMessage 83 = .ok (.aload_n 0, 1) := dk_42 (dk_at dksX1_writeMessage_3 15 rfl rfl)
theorem dX1_writeMessage_84 : decode cX1_writeMessage 84 = .ok (.getfield 47, 3) := dk_180 0 47 (dk_at dksX1_writeMessage_3 16 rfl rfl)
theorem dX1_writeMessage_87 : decode cX1_writeMessage 87 = .ok (.invokevirtual 382, 3) := dk_182 1 126 (dk_at dksX1_writeMessage_3 19 rfl rfl)
theorem dX1_writeMessage_90 : decode cX1_writeMessage 90 = .ok (.ireturn, 1) := dk_172 (dk_at dksX1_writeMessage_3 22 rfl rfl)
abbrev cX1_says : ByteArray := prog_1_method_66_code
def yX1_says : MethodName := ⟨RX1, "says", "(I)V"⟩
def dkwX1_says_1 : List UInt8 := [182, 1, 116, 87, 177]
abbrev dktX1_says_1 : List UInt8 := dkwX1_says_1 ++ []
def dkwX1_says_0 : List UInt8 := [27, 2, 160, 0, 16, 42, 180, 0, 47, 16, 63, 182, 1, 112, 87, 167, 0, 12, 42, 180, 0, 47, 27]
abbrev dktX1_says_0 : List UInt8 := dkwX1_says_0 ++ dktX1_says_1
theorem dksX1_says_0 : cX1_says.data.toList.drop 0 = dktX1_says_0 := by decide +kernel
theorem dksX1_says_1 : cX1_says.data.toList.drop 23 = dktX1_says_1 := dk_seg dksX1_says_0 23 rfl rfl
theorem dX1_says_0 : decode cX1_says 0 = .ok (.iload_n 1, 1) := dk_27 (dk_at dksX1_says_0 0 rfl rfl)
theorem dX1_says_1 : decode cX1_says 1 = .ok (.iconst (-1), 1) := dk_2 (dk_at dksX1_says_0 1 rfl rfl)
theorem dX1_says_2 : decode cX1_says 2 = .ok (.if_icmp .ne 16, 3) := dk_160 0 16 (dk_at dksX1_says_0 2 rfl rfl)
theorem dX1_says_5 : decode cX1_says 5 = .ok (.aload_n 0, 1) := dk_42 (dk_at dksX1_says_0 5 rfl rfl)
theorem dX1_says_6 : decode cX1_says 6 = .ok (.getfield 47, 3) := dk_180 0 47 (dk_at dksX1_says_0 6 rfl rfl)
theorem dX1_says_9 : decode cX1_says 9 = .ok (.bipush 63, 2) := dk_16 63 (dk_at dksX1_says_0 9 rfl rfl)
theorem dX1_says_11 : decode cX1_says 11 = .ok (.invokevirtual 368, 3) := dk_182 1 112 (dk_at dksX1_says_0 11 rfl rfl)
theorem dX1_says_14 : decode cX1_says 14 = .ok (.pop, 1) := dk_87 (dk_at dksX1_says_0 14 rfl rfl)
theorem dX1_says_15 : decode cX1_says 15 = .ok (.goto 12, 3) := dk_167 0 12 (dk_at dksX1_says_0 15 rfl rfl)
theorem dX1_says_18 : decode cX1_says 18 = .ok (.aload_n 0, 1) := dk_42 (dk_at dksX1_says_0 18 rfl rfl)
theorem dX1_says_19 : decode cX1_says 19 = .ok (.getfield 47, 3) := dk_180 0 47 (dk_at dksX1_says_0 19 rfl rfl)
theorem dX1_says_22 : decode cX1_says 22 = .ok (.iload_n 1, 1) := dk_27 (dk_at dksX1_says_0 22 rfl rfl)
theorem dX1_says_23 : decode cX1_says 23 = .ok (.invokevirtual 372, 3) := dk_182 1 116 (dk_at dksX1_says_1 0 rfl rfl)
theorem dX1_says_26 : decode cX1_says 26 = .ok (.pop, 1) := dk_87 (dk_at dksX1_says_1 3 rfl rfl)
theorem dX1_says_27 : decode cX1_says 27 = .ok (.return_, 1) := dk_177 (dk_at dksX1_says_1 4 rfl rfl)
abbrev cX1_writeBelieved : ByteArray := prog_1_method_68_code
def yX1_writeBelieved : MethodName := ⟨RX1, "writeBelieved", "(I)I"⟩
def dkwX1_writeBelieved_1 : List UInt8 := [42, 44, 29, 182, 1, 8, 182, 1, 123, 132, 3, 1, 167, 255, 236, 42, 180, 0, 47, 182, 1, 126, 172]
abbrev dktX1_writeBelieved_1 : List UInt8 := dkwX1_writeBelieved_1 ++ []
def dkwX1_writeBelieved_0 : List UInt8 := [42, 27, 182, 0, 102, 77, 42, 180, 0, 47, 3, 182, 1, 119, 3, 62, 29, 44, 182, 0, 105, 162, 0, 18]
abbrev dktX1_writeBelieved_0 : List UInt8 := dkwX1_writeBelieved_0 ++ dktX1_writeBelieved_1
theorem dksX1_writeBelieved_0 : cX1_writeBelieved.data.toList.drop 0 = dktX1_writeBelieved_0 := by decide +kernel
theorem dksX1_writeBelieved_1 : cX1_writeBelieved.data.toList.drop 24 = dktX1_writeBelieved_1 := dk_seg dksX1_writeBelieved_0 24 rfl rfl
theorem dX1_writeBelieved_0 : decode cX1_writeBelieved 0 = .ok (.aload_n 0, 1) := dk_42 (dk_at dksX1_writeBelieved_0 0 rfl rfl)
theorem dX1_writeBelieved_1 : decode cX1_writeBelieved 1 = .ok (.iload_n 1, 1) := dk_27 (dk_at dksX1_writeBelieved_0 1 rfl rfl)
theorem dX1_writeBelieved_2 : decode cX1_writeBelieved 2 = .ok (.invokevirtual 102, 3) := dk_182 0 102 (dk_at dksX1_writeBelieved_0 2 rfl rfl)
theorem dX1_writeBelieved_5 : decode cX1_writeBelieved 5 = .ok (.astore_n 2, 1) := dk_77 (dk_at dksX1_writeBelieved_0 5 rfl rfl)
theorem dX1_writeBelieved_6 : decode cX1_writeBelieved 6 = .ok (.aload_n 0, 1) := dk_42 (dk_at dksX1_writeBelieved_0 6 rfl rfl)
theorem dX1_writeBelieved_7 : decode cX1_writeBelieved 7 = .ok (.getfield 47, 3) := dk_180 0 47 (dk_at dksX1_writeBelieved_0 7 rfl rfl)
theorem dX1_writeBelieved_10 : decode cX1_writeBelieved 10 = .ok (.iconst 0, 1) := dk_3 (dk_at dksX1_writeBelieved_0 10 rfl rfl)
theorem dX1_writeBelieved_11 : decode cX1_writeBelieved 11 = .ok (.invokevirtual 375, 3) := dk_182 1 119 (dk_at dksX1_writeBelieved_0 11 rfl rfl)
theorem dX1_writeBelieved_14 : decode cX1_writeBelieved 14 = .ok (.iconst 0, 1) := dk_3 (dk_at dksX1_writeBelieved_0 14 rfl rfl)
theorem dX1_writeBelieved_15 : decode cX1_writeBelieved 15 = .ok (.istore_n 3, 1) := dk_62 (dk_at dksX1_writeBelieved_0 15 rfl rfl)
theorem dX1_writeBelieved_16 : decode cX1_writeBelieved 16 = .ok (.iload_n 3, 1) := dk_29 (dk_at dksX1_writeBelieved_0 16 rfl rfl)
theorem dX1_writeBelieved_17 : decode cX1_writeBelieved 17 = .ok (.aload_n 2, 1) := dk_44 (dk_at dksX1_writeBelieved_0 17 rfl rfl)
theorem dX1_writeBelieved_18 : decode cX1_writeBelieved 18 = .ok (.invokevirtual 105, 3) := dk_182 0 105 (dk_at dksX1_writeBelieved_0 18 rfl rfl)
theorem dX1_writeBelieved_21 : decode cX1_writeBelieved 21 = .ok (.if_icmp .ge 18, 3) := dk_162 0 18 (dk_at dksX1_writeBelieved_0 21 rfl rfl)
theorem dX1_writeBelieved_24 : decode cX1_writeBelieved 24 = .ok (.aload_n 0, 1) := dk_42 (dk_at dksX1_writeBelieved_1 0 rfl rfl)
theorem dX1_writeBelieved_25 : decode cX1_writeBelieved 25 = .ok (.aload_n 2, 1) := dk_44 (dk_at dksX1_writeBelieved_1 1 rfl rfl)
theorem dX1_writeBelieved_26 : decode cX1_writeBelieved 26 = .ok (.iload_n 3, 1) := dk_29 (dk_at dksX1_writeBelieved_1 2 rfl rfl)
theorem dX1_writeBelieved_27 : decode cX1_writeBelieved 27 = .ok (.invokevirtual 264, 3) := dk_182 1 8 (dk_at dksX1_writeBelieved_1 3 rfl rfl)
theorem dX1_writeBelieved_30 : decode cX1_writeBelieved 30 = .ok (.invokevirtual 379, 3) := dk_182 1 123 (dk_at dksX1_writeBelieved_1 6 rfl rfl)
theorem dX1_writeBelieved_33 : decode cX1_writeBelieved 33 = .ok (.iinc 3 1, 3) := dk_132 3 1 (dk_at dksX1_writeBelieved_1 9 rfl rfl)
theorem dX1_writeBelieved_36 : decode cX1_writeBelieved 36 = .ok (.goto (-20), 3) := dk_167 255 236 (dk_at dksX1_writeBelieved_1 12 rfl rfl)
theorem dX1_writeBelieved_39 : decode cX1_writeBelieved 39 = .ok (.aload_n 0, 1) := dk_42 (dk_at dksX1_writeBelieved_1 15 rfl rfl)
theorem dX1_writeBelieved_40 : decode cX1_writeBelieved 40 = .ok (.getfield 47, 3) := dk_180 0 47 (dk_at dksX1_writeBelieved_1 16 rfl rfl)
theorem dX1_writeBelieved_43 : decode cX1_writeBelieved 43 = .ok (.invokevirtual 382, 3) := dk_182 1 126 (dk_at dksX1_writeBelieved_1 19 rfl rfl)
theorem dX1_writeBelieved_46 : decode cX1_writeBelieved 46 = .ok (.ireturn, 1) := dk_172 (dk_at dksX1_writeBelieved_1 22 rfl rfl)
abbrev cX1_writeWires : ByteArray := prog_1_method_69_code
def yX1_writeWires : MethodName := ⟨RX1, "writeWires", "(I)I"⟩
def dkwX1_writeWires_4 : List UInt8 := [46, 182, 1, 116, 87, 132, 3, 1, 167, 255, 174, 42, 180, 0, 47, 182, 1, 126, 172]
abbrev dktX1_writeWires_4 : List UInt8 := dkwX1_writeWires_4 ++ []
def dkwX1_writeWires_3 : List UInt8 := [182, 1, 112, 87, 167, 0, 25, 42, 180, 0, 47, 42, 180, 0, 64, 180, 0, 87, 180, 0, 186, 28, 29, 96]
abbrev dktX1_writeWires_3 : List UInt8 := dkwX1_writeWires_3 ++ dktX1_writeWires_4
def dkwX1_writeWires_2 : List UInt8 := [180, 0, 64, 180, 0, 87, 180, 0, 193, 28, 29, 96, 51, 153, 0, 16, 42, 180, 0, 47, 16, 120]
abbrev dktX1_writeWires_2 : List UInt8 := dkwX1_writeWires_2 ++ dktX1_writeWires_3
def dkwX1_writeWires_1 : List UInt8 := [29, 6, 159, 0, 9, 29, 16, 6, 160, 0, 13, 42, 180, 0, 47, 16, 32, 182, 1, 112, 87, 42]
abbrev dktX1_writeWires_1 : List UInt8 := dkwX1_writeWires_1 ++ dktX1_writeWires_2
def dkwX1_writeWires_0 : List UInt8 := [42, 27, 3, 3, 182, 0, 183, 61, 42, 180, 0, 47, 3, 182, 1, 119, 3, 62, 29, 16, 9, 162, 0, 82]
abbrev dktX1_writeWires_0 : List UInt8 := dkwX1_writeWires_0 ++ dktX1_writeWires_1
theorem dksX1_writeWires_0 : cX1_writeWires.data.toList.drop 0 = dktX1_writeWires_0 := by decide +kernel
theorem dksX1_writeWires_1 : cX1_writeWires.data.toList.drop 24 = dktX1_writeWires_1 := dk_seg dksX1_writeWires_0 24 rfl rfl
theorem dksX1_writeWires_2 : cX1_writeWires.data.toList.drop 46 = dktX1_writeWires_2 := dk_seg dksX1_writeWires_1 22 rfl rfl
theorem dksX1_writeWires_3 : cX1_writeWires.data.toList.drop 68 = dktX1_writeWires_3 := dk_seg dksX1_writeWires_2 22 rfl rfl
theorem dksX1_writeWires_4 : cX1_writeWires.data.toList.drop 92 = dktX1_writeWires_4 := dk_seg dksX1_writeWires_3 24 rfl rfl
theorem dX1_writeWires_0 : decode cX1_writeWires 0 = .ok (.aload_n 0, 1) := dk_42 (dk_at dksX1_writeWires_0 0 rfl rfl)
theorem dX1_writeWires_1 : decode cX1_writeWires 1 = .ok (.iload_n 1, 1) := dk_27 (dk_at dksX1_writeWires_0 1 rfl rfl)
theorem dX1_writeWires_2 : decode cX1_writeWires 2 = .ok (.iconst 0, 1) := dk_3 (dk_at dksX1_writeWires_0 2 rfl rfl)
theorem dX1_writeWires_3 : decode cX1_writeWires 3 = .ok (.iconst 0, 1) := dk_3 (dk_at dksX1_writeWires_0 3 rfl rfl)
theorem dX1_writeWires_4 : decode cX1_writeWires 4 = .ok (.invokevirtual 183, 3) := dk_182 0 183 (dk_at dksX1_writeWires_0 4 rfl rfl)
theorem dX1_writeWires_7 : decode cX1_writeWires 7 = .ok (.istore_n 2, 1) := dk_61 (dk_at dksX1_writeWires_0 7 rfl rfl)
theorem dX1_writeWires_8 : decode cX1_writeWires 8 = .ok (.aload_n 0, 1) := dk_42 (dk_at dksX1_writeWires_0 8 rfl rfl)
theorem dX1_writeWires_9 : decode cX1_writeWires 9 = .ok (.getfield 47, 3) := dk_180 0 47 (dk_at dksX1_writeWires_0 9 rfl rfl)
theorem dX1_writeWires_12 : decode cX1_writeWires 12 = .ok (.iconst 0, 1) := dk_3 (dk_at dksX1_writeWires_0 12 rfl rfl)
theorem dX1_writeWires_13 : decode cX1_writeWires 13 = .ok (.invokevirtual 375, 3) := dk_182 1 119 (dk_at dksX1_writeWires_0 13 rfl rfl)
theorem dX1_writeWires_16 : decode cX1_writeWires 16 = .ok (.iconst 0, 1) := dk_3 (dk_at dksX1_writeWires_0 16 rfl rfl)
theorem dX1_writeWires_17 : decode cX1_writeWires 17 = .ok (.istore_n 3, 1) := dk_62 (dk_at dksX1_writeWires_0 17 rfl rfl)
theorem dX1_writeWires_18 : decode cX1_writeWires 18 = .ok (.iload_n 3, 1) := dk_29 (dk_at dksX1_writeWires_0 18 rfl rfl)
theorem dX1_writeWires_19 : decode cX1_writeWires 19 = .ok (.bipush 9, 2) := dk_16 9 (dk_at dksX1_writeWires_0 19 rfl rfl)
theorem dX1_writeWires_21 : decode cX1_writeWires 21 = .ok (.if_icmp .ge 82, 3) := dk_162 0 82 (dk_at dksX1_writeWires_0 21 rfl rfl)
theorem dX1_writeWires_24 : decode cX1_writeWires 24 = .ok (.iload_n 3, 1) := dk_29 (dk_at dksX1_writeWires_1 0 rfl rfl)
theorem dX1_writeWires_25 : decode cX1_writeWires 25 = .ok (.iconst 3, 1) := dk_6 (dk_at dksX1_writeWires_1 1 rfl rfl)
theorem dX1_writeWires_26 : decode cX1_writeWires 26 = .ok (.if_icmp .eq 9, 3) := dk_159 0 9 (dk_at dksX1_writeWires_1 2 rfl rfl)
theorem dX1_writeWires_29 : decode cX1_writeWires 29 = .ok (.iload_n 3, 1) := dk_29 (dk_at dksX1_writeWires_1 5 rfl rfl)
theorem dX1_writeWires_30 : decode cX1_writeWires 30 = .ok (.bipush 6, 2) := dk_16 6 (dk_at dksX1_writeWires_1 6 rfl rfl)
theorem dX1_writeWires_32 : decode cX1_writeWires 32 = .ok (.if_icmp .ne 13, 3) := dk_160 0 13 (dk_at dksX1_writeWires_1 8 rfl rfl)
theorem dX1_writeWires_35 : decode cX1_writeWires 35 = .ok (.aload_n 0, 1) := dk_42 (dk_at dksX1_writeWires_1 11 rfl rfl)
theorem dX1_writeWires_36 : decode cX1_writeWires 36 = .ok (.getfield 47, 3) := dk_180 0 47 (dk_at dksX1_writeWires_1 12 rfl rfl)
theorem dX1_writeWires_39 : decode cX1_writeWires 39 = .ok (.bipush 32, 2) := dk_16 32 (dk_at dksX1_writeWires_1 15 rfl rfl)
theorem dX1_writeWires_41 : decode cX1_writeWires 41 = .ok (.invokevirtual 368, 3) := dk_182 1 112 (dk_at dksX1_writeWires_1 17 rfl rfl)
theorem dX1_writeWires_44 : decode cX1_writeWires 44 = .ok (.pop, 1) := dk_87 (dk_at dksX1_writeWires_1 20 rfl rfl)
theorem dX1_writeWires_45 : decode cX1_writeWires 45 = .ok (.aload_n 0, 1) := dk_42 (dk_at dksX1_writeWires_1 21 rfl rfl)
theorem dX1_writeWires_46 : decode cX1_writeWires 46 = .ok (.getfield 64, 3) := dk_180 0 64 (dk_at dksX1_writeWires_2 0 rfl rfl)
theorem dX1_writeWires_49 : decode cX1_writeWires 49 = .ok (.getfield 87, 3) := dk_180 0 87 (dk_at dksX1_writeWires_2 3 rfl rfl)
theorem dX1_writeWires_52 : decode cX1_writeWires 52 = .ok (.getfield 193, 3) := dk_180 0 193 (dk_at dksX1_writeWires_2 6 rfl rfl)
theorem dX1_writeWires_55 : decode cX1_writeWires 55 = .ok (.iload_n 2, 1) := dk_28 (dk_at dksX1_writeWires_2 9 rfl rfl)
theorem dX1_writeWires_56 : decode cX1_writeWires 56 = .ok (.iload_n 3, 1) := dk_29 (dk_at dksX1_writeWires_2 10 rfl rfl)
theorem dX1_writeWires_57 : decode cX1_writeWires 57 = .ok (.iadd, 1) := dk_96 (dk_at dksX1_writeWires_2 11 rfl rfl)
theorem dX1_writeWires_58 : decode cX1_writeWires 58 = .ok (.baload, 1) := dk_51 (dk_at dksX1_writeWires_2 12 rfl rfl)
theorem dX1_writeWires_59 : decode cX1_writeWires 59 = .ok (.ifCond .eq 16, 3) := dk_153 0 16 (dk_at dksX1_writeWires_2 13 rfl rfl)
theorem dX1_writeWires_62 : decode cX1_writeWires 62 = .ok (.aload_n 0, 1) := dk_42 (dk_at dksX1_writeWires_2 16 rfl rfl)
theorem dX1_writeWires_63 : decode cX1_writeWires 63 = .ok (.getfield 47, 3) := dk_180 0 47 (dk_at dksX1_writeWires_2 17 rfl rfl)
theorem dX1_writeWires_66 : decode cX1_writeWires 66 = .ok (.bipush 120, 2) := dk_16 120 (dk_at dksX1_writeWires_2 20 rfl rfl)
theorem dX1_writeWires_68 : decode cX1_writeWires 68 = .ok (.invokevirtual 368, 3) := dk_182 1 112 (dk_at dksX1_writeWires_3 0 rfl rfl)
theorem dX1_writeWires_71 : decode cX1_writeWires 71 = .ok (.pop, 1) := dk_87 (dk_at dksX1_writeWires_3 3 rfl rfl)
theorem dX1_writeWires_72 : decode cX1_writeWires 72 = .ok (.goto 25, 3) := dk_167 0 25 (dk_at dksX1_writeWires_3 4 rfl rfl)
theorem dX1_writeWires_75 : decode cX1_writeWires 75 = .ok (.aload_n 0, 1) := dk_42 (dk_at dksX1_writeWires_3 7 rfl rfl)
theorem dX1_writeWires_76 : decode cX1_writeWires 76 = .ok (.getfield 47, 3) := dk_180 0 47 (dk_at dksX1_writeWires_3 8 rfl rfl)
theorem dX1_writeWires_79 : decode cX1_writeWires 79 = .ok (.aload_n 0, 1) := dk_42 (dk_at dksX1_writeWires_3 11 rfl rfl)
theorem dX1_writeWires_80 : decode cX1_writeWires 80 = .ok (.getfield 64, 3) := dk_180 0 64 (dk_at dksX1_writeWires_3 12 rfl rfl)
theorem dX1_writeWires_83 : decode cX1_writeWires 83 = .ok (.getfield 87, 3) := dk_180 0 87 (dk_at dksX1_writeWires_3 15 rfl rfl)
theorem dX1_writeWires_86 : decode cX1_writeWires 86 = .ok (.getfield 186, 3) := dk_180 0 186 (dk_at dksX1_writeWires_3 18 rfl rfl)
theorem dX1_writeWires_89 : decode cX1_writeWires 89 = .ok (.iload_n 2, 1) := dk_28 (dk_at dksX1_writeWires_3 21 rfl rfl)
theorem dX1_writeWires_90 : decode cX1_writeWires 90 = .ok (.iload_n 3, 1) := dk_29 (dk_at dksX1_writeWires_3 22 rfl rfl)
theorem dX1_writeWires_91 : decode cX1_writeWires 91 = .ok (.iadd, 1) := dk_96 (dk_at dksX1_writeWires_3 23 rfl rfl)
theorem dX1_writeWires_92 : decode cX1_writeWires 92 = .ok (.iaload, 1) := dk_46 (dk_at dksX1_writeWires_4 0 rfl rfl)
theorem dX1_writeWires_93 : decode cX1_writeWires 93 = .ok (.invokevirtual 372, 3) := dk_182 1 116 (dk_at dksX1_writeWires_4 1 rfl rfl)
theorem dX1_writeWires_96 : decode cX1_writeWires 96 = .ok (.pop, 1) := dk_87 (dk_at dksX1_writeWires_4 4 rfl rfl)
theorem dX1_writeWires_97 : decode cX1_writeWires 97 = .ok (.iinc 3 1, 3) := dk_132 3 1 (dk_at dksX1_writeWires_4 5 rfl rfl)
theorem dX1_writeWires_100 : decode cX1_writeWires 100 = .ok (.goto (-82), 3) := dk_167 255 174 (dk_at dksX1_writeWires_4 8 rfl rfl)
theorem dX1_writeWires_103 : decode cX1_writeWires 103 = .ok (.aload_n 0, 1) := dk_42 (dk_at dksX1_writeWires_4 11 rfl rfl)
theorem dX1_writeWires_104 : decode cX1_writeWires 104 = .ok (.getfield 47, 3) := dk_180 0 47 (dk_at dksX1_writeWires_4 12 rfl rfl)
theorem dX1_writeWires_107 : decode cX1_writeWires 107 = .ok (.invokevirtual 382, 3) := dk_182 1 126 (dk_at dksX1_writeWires_4 15 rfl rfl)
theorem dX1_writeWires_110 : decode cX1_writeWires 110 = .ok (.ireturn, 1) := dk_172 (dk_at dksX1_writeWires_4 18 rfl rfl)
abbrev cX1_writeLog : ByteArray := prog_1_method_70_code
def yX1_writeLog : MethodName := ⟨RX1, "writeLog", "()I"⟩
def dkwX1_writeLog_5 : List UInt8 := [16, 45, 182, 1, 112, 87, 42, 180, 0, 47, 182, 1, 126, 172]
abbrev dktX1_writeLog_5 : List UInt8 := dkwX1_writeLog_5 ++ []
def dkwX1_writeLog_4 : List UInt8 := [180, 1, 136, 182, 1, 116, 87, 167, 255, 185, 42, 180, 0, 47, 182, 1, 126, 154, 0, 13, 42, 180, 0, 47]
abbrev dktX1_writeLog_4 : List UInt8 := dkwX1_writeLog_4 ++ dktX1_writeLog_5
def dkwX1_writeLog_3 : List UInt8 := [180, 0, 47, 45, 180, 1, 127, 182, 1, 116, 19, 1, 128, 45, 180, 1, 60, 182, 1, 130, 182, 1, 112, 45]
abbrev dktX1_writeLog_3 : List UInt8 := dkwX1_writeLog_3 ++ dktX1_writeLog_4
def dkwX1_writeLog_2 : List UInt8 := [78, 42, 180, 0, 47, 182, 1, 126, 158, 0, 13, 42, 180, 0, 47, 16, 32, 182, 1, 112, 87, 42]
abbrev dktX1_writeLog_2 : List UInt8 := dkwX1_writeLog_2 ++ dktX1_writeLog_3
def dkwX1_writeLog_1 : List UInt8 := [185, 1, 48, 1, 0, 77, 44, 185, 1, 52, 1, 0, 153, 0, 68, 44, 185, 1, 58, 1, 0, 192, 1, 43]
abbrev dktX1_writeLog_1 : List UInt8 := dkwX1_writeLog_1 ++ dktX1_writeLog_2
def dkwX1_writeLog_0 : List UInt8 := [42, 182, 0, 72, 76, 42, 180, 0, 47, 3, 182, 1, 119, 43, 180, 1, 34, 180, 1, 38]
abbrev dktX1_writeLog_0 : List UInt8 := dkwX1_writeLog_0 ++ dktX1_writeLog_1
theorem dksX1_writeLog_0 : cX1_writeLog.data.toList.drop 0 = dktX1_writeLog_0 := by decide +kernel
theorem dksX1_writeLog_1 : cX1_writeLog.data.toList.drop 20 = dktX1_writeLog_1 := dk_seg dksX1_writeLog_0 20 rfl rfl
theorem dksX1_writeLog_2 : cX1_writeLog.data.toList.drop 44 = dktX1_writeLog_2 := dk_seg dksX1_writeLog_1 24 rfl rfl
theorem dksX1_writeLog_3 : cX1_writeLog.data.toList.drop 66 = dktX1_writeLog_3 := dk_seg dksX1_writeLog_2 22 rfl rfl
theorem dksX1_writeLog_4 : cX1_writeLog.data.toList.drop 90 = dktX1_writeLog_4 := dk_seg dksX1_writeLog_3 24 rfl rfl
theorem dksX1_writeLog_5 : cX1_writeLog.data.toList.drop 114 = dktX1_writeLog_5 := dk_seg dksX1_writeLog_4 24 rfl rfl
theorem dX1_writeLog_0 : decode cX1_writeLog 0 = .ok (.aload_n 0, 1) := dk_42 (dk_at dksX1_writeLog_0 0 rfl rfl)
theorem dX1_writeLog_1 : decode cX1_writeLog 1 = .ok (.invokevirtual 72, 3) := dk_182 0 72 (dk_at dksX1_writeLog_0 1 rfl rfl)
theorem dX1_writeLog_4 : decode cX1_writeLog 4 = .ok (.astore_n 1, 1) := dk_76 (dk_at dksX1_writeLog_0 4 rfl rfl)
theorem dX1_writeLog_5 : decode cX1_writeLog 5 = .ok (.aload_n 0, 1) := dk_42 (dk_at dksX1_writeLog_0 5 rfl rfl)
theorem dX1_writeLog_6 : decode cX1_writeLog 6 = .ok (.getfield 47, 3) := dk_180 0 47 (dk_at dksX1_writeLog_0 6 rfl rfl)
theorem dX1_writeLog_9 : decode cX1_writeLog 9 = .ok (.iconst 0, 1) := dk_3 (dk_at dksX1_writeLog_0 9 rfl rfl)
theorem dX1_writeLog_10 : decode cX1_writeLog 10 = .ok (.invokevirtual 375, 3) := dk_182 1 119 (dk_at dksX1_writeLog_0 10 rfl rfl)
theorem dX1_writeLog_13 : decode cX1_writeLog 13 = .ok (.aload_n 1, 1) := dk_43 (dk_at dksX1_writeLog_0 13 rfl rfl)
theorem dX1_writeLog_14 : decode cX1_writeLog 14 = .ok (.getfield 290, 3) := dk_180 1 34 (dk_at dksX1_writeLog_0 14 rfl rfl)
theorem dX1_writeLog_17 : decode cX1_writeLog 17 = .ok (.getfield 294, 3) := dk_180 1 38 (dk_at dksX1_writeLog_0 17 rfl rfl)
theorem dX1_writeLog_20 : decode cX1_writeLog 20 = .ok (.invokeinterface 304 1, 5) := by decide +kernel
theorem dX1_writeLog_25 : decode cX1_writeLog 25 = .ok (.astore_n 2, 1) := dk_77 (dk_at dksX1_writeLog_1 5 rfl rfl)
theorem dX1_writeLog_26 : decode cX1_writeLog 26 = .ok (.aload_n 2, 1) := dk_44 (dk_at dksX1_writeLog_1 6 rfl rfl)
theorem dX1_writeLog_27 : decode cX1_writeLog 27 = .ok (.invokeinterface 308 1, 5) := by decide +kernel
theorem dX1_writeLog_32 : decode cX1_writeLog 32 = .ok (.ifCond .eq 68, 3) := dk_153 0 68 (dk_at dksX1_writeLog_1 12 rfl rfl)
theorem dX1_writeLog_35 : decode cX1_writeLog 35 = .ok (.aload_n 2, 1) := dk_44 (dk_at dksX1_writeLog_1 15 rfl rfl)
theorem dX1_writeLog_36 : decode cX1_writeLog 36 = .ok (.invokeinterface 314 1, 5) := by decide +kernel
theorem dX1_writeLog_41 : decode cX1_writeLog 41 = .ok (.checkcast 299, 3) := dk_192 1 43 (dk_at dksX1_writeLog_1 21 rfl rfl)
theorem dX1_writeLog_44 : decode cX1_writeLog 44 = .ok (.astore_n 3, 1) := dk_78 (dk_at dksX1_writeLog_2 0 rfl rfl)
theorem dX1_writeLog_45 : decode cX1_writeLog 45 = .ok (.aload_n 0, 1) := dk_42 (dk_at dksX1_writeLog_2 1 rfl rfl)
theorem dX1_writeLog_46 : decode cX1_writeLog 46 = .ok (.getfield 47, 3) := dk_180 0 47 (dk_at dksX1_writeLog_2 2 rfl rfl)
theorem dX1_writeLog_49 : decode cX1_writeLog 49 = .ok (.invokevirtual 382, 3) := dk_182 1 126 (dk_at dksX1_writeLog_2 5 rfl rfl)
theorem dX1_writeLog_52 : decode cX1_writeLog 52 = .ok (.ifCond .le 13, 3) := dk_158 0 13 (dk_at dksX1_writeLog_2 8 rfl rfl)
theorem dX1_writeLog_55 : decode cX1_writeLog 55 = .ok (.aload_n 0, 1) := dk_42 (dk_at dksX1_writeLog_2 11 rfl rfl)
theorem dX1_writeLog_56 : decode cX1_writeLog 56 = .ok (.getfield 47, 3) := dk_180 0 47 (dk_at dksX1_writeLog_2 12 rfl rfl)
theorem dX1_writeLog_59 : decode cX1_writeLog 59 = .ok (.bipush 32, 2) := dk_16 32 (dk_at dksX1_writeLog_2 15 rfl rfl)
theorem dX1_writeLog_61 : decode cX1_writeLog 61 = .ok (.invokevirtual 368, 3) := dk_182 1 112 (dk_at dksX1_writeLog_2 17 rfl rfl)
theorem dX1_writeLog_64 : decode cX1_writeLog 64 = .ok (.pop, 1) := dk_87 (dk_at dksX1_writeLog_2 20 rfl rfl)
theorem dX1_writeLog_65 : decode cX1_writeLog 65 = .ok (.aload_n 0, 1) := dk_42 (dk_at dksX1_writeLog_2 21 rfl rfl)
theorem dX1_writeLog_66 : decode cX1_writeLog 66 = .ok (.getfield 47, 3) := dk_180 0 47 (dk_at dksX1_writeLog_3 0 rfl rfl)
theorem dX1_writeLog_69 : decode cX1_writeLog 69 = .ok (.aload_n 3, 1) := dk_45 (dk_at dksX1_writeLog_3 3 rfl rfl)
theorem dX1_writeLog_70 : decode cX1_writeLog 70 = .ok (.getfield 383, 3) := dk_180 1 127 (dk_at dksX1_writeLog_3 4 rfl rfl)
theorem dX1_writeLog_73 : decode cX1_writeLog 73 = .ok (.invokevirtual 372, 3) := dk_182 1 116 (dk_at dksX1_writeLog_3 7 rfl rfl)
theorem dX1_writeLog_76 : decode cX1_writeLog 76 = .ok (.ldc_w 384, 3) := dk_19 1 128 (dk_at dksX1_writeLog_3 10 rfl rfl)
theorem dX1_writeLog_79 : decode cX1_writeLog 79 = .ok (.aload_n 3, 1) := dk_45 (dk_at dksX1_writeLog_3 13 rfl rfl)
theorem dX1_writeLog_80 : decode cX1_writeLog 80 = .ok (.getfield 316, 3) := dk_180 1 60 (dk_at dksX1_writeLog_3 14 rfl rfl)
theorem dX1_writeLog_83 : decode cX1_writeLog 83 = .ok (.invokevirtual 386, 3) := dk_182 1 130 (dk_at dksX1_writeLog_3 17 rfl rfl)
theorem dX1_writeLog_86 : decode cX1_writeLog 86 = .ok (.invokevirtual 368, 3) := dk_182 1 112 (dk_at dksX1_writeLog_3 20 rfl rfl)
theorem dX1_writeLog_89 : decode cX1_writeLog 89 = .ok (.aload_n 3, 1) := dk_45 (dk_at dksX1_writeLog_3 23 rfl rfl)
theorem dX1_writeLog_90 : decode cX1_writeLog 90 = .ok (.getfield 392, 3) := dk_180 1 136 (dk_at dksX1_writeLog_4 0 rfl rfl)
theorem dX1_writeLog_93 : decode cX1_writeLog 93 = .ok (.invokevirtual 372, 3) := dk_182 1 116 (dk_at dksX1_writeLog_4 3 rfl rfl)
theorem dX1_writeLog_96 : decode cX1_writeLog 96 = .ok (.pop, 1) := dk_87 (dk_at dksX1_writeLog_4 6 rfl rfl)
theorem dX1_writeLog_97 : decode cX1_writeLog 97 = .ok (.goto (-71), 3) := dk_167 255 185 (dk_at dksX1_writeLog_4 7 rfl rfl)
theorem dX1_writeLog_100 : decode cX1_writeLog 100 = .ok (.aload_n 0, 1) := dk_42 (dk_at dksX1_writeLog_4 10 rfl rfl)
theorem dX1_writeLog_101 : decode cX1_writeLog 101 = .ok (.getfield 47, 3) := dk_180 0 47 (dk_at dksX1_writeLog_4 11 rfl rfl)
theorem dX1_writeLog_104 : decode cX1_writeLog 104 = .ok (.invokevirtual 382, 3) := dk_182 1 126 (dk_at dksX1_writeLog_4 14 rfl rfl)
theorem dX1_writeLog_107 : decode cX1_writeLog 107 = .ok (.ifCond .ne 13, 3) := dk_154 0 13 (dk_at dksX1_writeLog_4 17 rfl rfl)
theorem dX1_writeLog_110 : decode cX1_writeLog 110 = .ok (.aload_n 0, 1) := dk_42 (dk_at dksX1_writeLog_4 20 rfl rfl)
theorem dX1_writeLog_111 : decode cX1_writeLog 111 = .ok (.getfield 47, 3) := dk_180 0 47 (dk_at dksX1_writeLog_4 21 rfl rfl)
theorem dX1_writeLog_114 : decode cX1_writeLog 114 = .ok (.bipush 45, 2) := dk_16 45 (dk_at dksX1_writeLog_5 0 rfl rfl)
theorem dX1_writeLog_116 : decode cX1_writeLog 116 = .ok (.invokevirtual 368, 3) := dk_182 1 112 (dk_at dksX1_writeLog_5 2 rfl rfl)
theorem dX1_writeLog_119 : decode cX1_writeLog 119 = .ok (.pop, 1) := dk_87 (dk_at dksX1_writeLog_5 5 rfl rfl)
theorem dX1_writeLog_120 : decode cX1_writeLog 120 = .ok (.aload_n 0, 1) := dk_42 (dk_at dksX1_writeLog_5 6 rfl rfl)
theorem dX1_writeLog_121 : decode cX1_writeLog 121 = .ok (.getfield 47, 3) := dk_180 0 47 (dk_at dksX1_writeLog_5 7 rfl rfl)
theorem dX1_writeLog_124 : decode cX1_writeLog 124 = .ok (.invokevirtual 382, 3) := dk_182 1 126 (dk_at dksX1_writeLog_5 10 rfl rfl)
theorem dX1_writeLog_127 : decode cX1_writeLog 127 = .ok (.ireturn, 1) := dk_172 (dk_at dksX1_writeLog_5 13 rfl rfl)
abbrev cX1_textByte : ByteArray := prog_1_method_71_code
def yX1_textByte : MethodName := ⟨RX1, "textByte", "(I)I"⟩
def dkwX1_textByte_0 : List UInt8 := [27, 42, 180, 0, 47, 182, 1, 126, 184, 0, 79, 42, 180, 0, 47, 27, 182, 1, 138, 172]
abbrev dktX1_textByte_0 : List UInt8 := dkwX1_textByte_0 ++ []
theorem dksX1_textByte_0 : cX1_textByte.data.toList.drop 0 = dktX1_textByte_0 := by decide +kernel
theorem dX1_textByte_0 : decode cX1_textByte 0 = .ok (.iload_n 1, 1) := dk_27 (dk_at dksX1_textByte_0 0 rfl rfl)
theorem dX1_textByte_1 : decode cX1_textByte 1 = .ok (.aload_n 0, 1) := dk_42 (dk_at dksX1_textByte_0 1 rfl rfl)
theorem dX1_textByte_2 : decode cX1_textByte 2 = .ok (.getfield 47, 3) := dk_180 0 47 (dk_at dksX1_textByte_0 2 rfl rfl)
theorem dX1_textByte_5 : decode cX1_textByte 5 = .ok (.invokevirtual 382, 3) := dk_182 1 126 (dk_at dksX1_textByte_0 5 rfl rfl)
theorem dX1_textByte_8 : decode cX1_textByte 8 = .ok (.invokestatic 79, 3) := dk_184 0 79 (dk_at dksX1_textByte_0 8 rfl rfl)
theorem dX1_textByte_11 : decode cX1_textByte 11 = .ok (.aload_n 0, 1) := dk_42 (dk_at dksX1_textByte_0 11 rfl rfl)
theorem dX1_textByte_12 : decode cX1_textByte 12 = .ok (.getfield 47, 3) := dk_180 0 47 (dk_at dksX1_textByte_0 12 rfl rfl)
theorem dX1_textByte_15 : decode cX1_textByte 15 = .ok (.iload_n 1, 1) := dk_27 (dk_at dksX1_textByte_0 15 rfl rfl)
theorem dX1_textByte_16 : decode cX1_textByte 16 = .ok (.invokevirtual 394, 3) := dk_182 1 138 (dk_at dksX1_textByte_0 16 rfl rfl)
theorem dX1_textByte_19 : decode cX1_textByte 19 = .ok (.ireturn, 1) := dk_172 (dk_at dksX1_textByte_0 19 rfl rfl)
abbrev cX1_send : ByteArray := prog_1_method_72_code
def yX1_send : MethodName := ⟨RX1, "send", "(II)I"⟩
def dkwX1_send_4 : List UInt8 := [132, 5, 1, 167, 255, 227, 42, 182, 1, 142, 25, 4, 182, 1, 145, 172]
abbrev dktX1_send_4 : List UInt8 := dkwX1_send_4 ++ []
def dkwX1_send_3 : List UInt8 := [162, 0, 29, 25, 4, 21, 5, 27, 178, 1, 139, 28, 4, 100, 21, 5, 100, 46, 108, 16, 10, 112, 79]
abbrev dktX1_send_3 : List UInt8 := dkwX1_send_3 ++ dktX1_send_4
def dkwX1_send_2 : List UInt8 := [28, 46, 4, 100, 133, 184, 0, 54, 184, 0, 116, 28, 188, 10, 58, 4, 3, 54, 5, 21, 5, 28]
abbrev dktX1_send_2 : List UInt8 := dkwX1_send_2 ++ dktX1_send_3
def dkwX1_send_1 : List UInt8 := [185, 0, 3, 1, 0, 16, 6, 162, 0, 7, 4, 167, 0, 4, 3, 184, 0, 116, 27, 133, 9, 178, 1, 139]
abbrev dktX1_send_1 : List UInt8 := dkwX1_send_1 ++ dktX1_send_2
def dkwX1_send_0 : List UInt8 := [42, 182, 0, 72, 78, 28, 133, 10, 20, 0, 114, 184, 0, 54, 153, 0, 21, 45, 180, 0, 94]
abbrev dktX1_send_0 : List UInt8 := dkwX1_send_0 ++ dktX1_send_1
theorem dksX1_send_0 : cX1_send.data.toList.drop 0 = dktX1_send_0 := by decide +kernel
theorem dksX1_send_1 : cX1_send.data.toList.drop 21 = dktX1_send_1 := dk_seg dksX1_send_0 21 rfl rfl
theorem dksX1_send_2 : cX1_send.data.toList.drop 45 = dktX1_send_2 := dk_seg dksX1_send_1 24 rfl rfl
theorem dksX1_send_3 : cX1_send.data.toList.drop 67 = dktX1_send_3 := dk_seg dksX1_send_2 22 rfl rfl
theorem dksX1_send_4 : cX1_send.data.toList.drop 90 = dktX1_send_4 := dk_seg dksX1_send_3 23 rfl rfl
theorem dX1_send_0 : decode cX1_send 0 = .ok (.aload_n 0, 1) := dk_42 (dk_at dksX1_send_0 0 rfl rfl)
theorem dX1_send_1 : decode cX1_send 1 = .ok (.invokevirtual 72, 3) := dk_182 0 72 (dk_at dksX1_send_0 1 rfl rfl)
theorem dX1_send_4 : decode cX1_send 4 = .ok (.astore_n 3, 1) := dk_78 (dk_at dksX1_send_0 4 rfl rfl)
theorem dX1_send_5 : decode cX1_send 5 = .ok (.iload_n 2, 1) := dk_28 (dk_at dksX1_send_0 5 rfl rfl)
theorem dX1_send_6 : decode cX1_send 6 = .ok (.i2l, 1) := dk_133 (dk_at dksX1_send_0 6 rfl rfl)
theorem dX1_send_7 : decode cX1_send 7 = .ok (.lconst 1, 1) := dk_10 (dk_at dksX1_send_0 7 rfl rfl)
theorem dX1_send_8 : decode cX1_send 8 = .ok (.ldc2_w 114, 3) := dk_20 0 114 (dk_at dksX1_send_0 8 rfl rfl)
theorem dX1_send_11 : decode cX1_send 11 = .ok (.invokestatic 54, 3) := dk_184 0 54 (dk_at dksX1_send_0 11 rfl rfl)
theorem dX1_send_14 : decode cX1_send 14 = .ok (.ifCond .eq 21, 3) := dk_153 0 21 (dk_at dksX1_send_0 14 rfl rfl)
theorem dX1_send_17 : decode cX1_send 17 = .ok (.aload_n 3, 1) := dk_45 (dk_at dksX1_send_0 17 rfl rfl)
theorem dX1_send_18 : decode cX1_send 18 = .ok (.getfield 94, 3) := dk_180 0 94 (dk_at dksX1_send_0 18 rfl rfl)
theorem dX1_send_21 : decode cX1_send 21 = .ok (.invokeinterface 3 1, 5) := by decide +kernel
theorem dX1_send_26 : decode cX1_send 26 = .ok (.bipush 6, 2) := dk_16 6 (dk_at dksX1_send_1 5 rfl rfl)
theorem dX1_send_28 : decode cX1_send 28 = .ok (.if_icmp .ge 7, 3) := dk_162 0 7 (dk_at dksX1_send_1 7 rfl rfl)
theorem dX1_send_31 : decode cX1_send 31 = .ok (.iconst 1, 1) := dk_4 (dk_at dksX1_send_1 10 rfl rfl)
theorem dX1_send_32 : decode cX1_send 32 = .ok (.goto 4, 3) := dk_167 0 4 (dk_at dksX1_send_1 11 rfl rfl)
theorem dX1_send_35 : decode cX1_send 35 = .ok (.iconst 0, 1) := dk_3 (dk_at dksX1_send_1 14 rfl rfl)
theorem dX1_send_36 : decode cX1_send 36 = .ok (.invokestatic 116, 3) := dk_184 0 116 (dk_at dksX1_send_1 15 rfl rfl)
theorem dX1_send_39 : decode cX1_send 39 = .ok (.iload_n 1, 1) := dk_27 (dk_at dksX1_send_1 18 rfl rfl)
theorem dX1_send_40 : decode cX1_send 40 = .ok (.i2l, 1) := dk_133 (dk_at dksX1_send_1 19 rfl rfl)
theorem dX1_send_41 : decode cX1_send 41 = .ok (.lconst 0, 1) := dk_9 (dk_at dksX1_send_1 20 rfl rfl)
theorem dX1_send_42 : decode cX1_send 42 = .ok (.getstatic 395, 3) := dk_178 1 139 (dk_at dksX1_send_1 21 rfl rfl)
theorem dX1_send_45 : decode cX1_send 45 = .ok (.iload_n 2, 1) := dk_28 (dk_at dksX1_send_2 0 rfl rfl)
theorem dX1_send_46 : decode cX1_send 46 = .ok (.iaload, 1) := dk_46 (dk_at dksX1_send_2 1 rfl rfl)
theorem dX1_send_47 : decode cX1_send 47 = .ok (.iconst 1, 1) := dk_4 (dk_at dksX1_send_2 2 rfl rfl)
theorem dX1_send_48 : decode cX1_send 48 = .ok (.isub, 1) := dk_100 (dk_at dksX1_send_2 3 rfl rfl)
theorem dX1_send_49 : decode cX1_send 49 = .ok (.i2l, 1) := dk_133 (dk_at dksX1_send_2 4 rfl rfl)
theorem dX1_send_50 : decode cX1_send 50 = .ok (.invokestatic 54, 3) := dk_184 0 54 (dk_at dksX1_send_2 5 rfl rfl)
theorem dX1_send_53 : decode cX1_send 53 = .ok (.invokestatic 116, 3) := dk_184 0 116 (dk_at dksX1_send_2 8 rfl rfl)
theorem dX1_send_56 : decode cX1_send 56 = .ok (.iload_n 2, 1) := dk_28 (dk_at dksX1_send_2 11 rfl rfl)
theorem dX1_send_57 : decode cX1_send 57 = .ok (.newarray .int, 2) := dk_188_10 (dk_at dksX1_send_2 12 rfl rfl)
theorem dX1_send_59 : decode cX1_send 59 = .ok (.astore 4, 2) := dk_58 4 (dk_at dksX1_send_2 14 rfl rfl)
theorem dX1_send_61 : decode cX1_send 61 = .ok (.iconst 0, 1) := dk_3 (dk_at dksX1_send_2 16 rfl rfl)
theorem dX1_send_62 : decode cX1_send 62 = .ok (.istore 5, 2) := dk_54 5 (dk_at dksX1_send_2 17 rfl rfl)
theorem dX1_send_64 : decode cX1_send 64 = .ok (.iload 5, 2) := dk_21 5 (dk_at dksX1_send_2 19 rfl rfl)
theorem dX1_send_66 : decode cX1_send 66 = .ok (.iload_n 2, 1) := dk_28 (dk_at dksX1_send_2 21 rfl rfl)
theorem dX1_send_67 : decode cX1_send 67 = .ok (.if_icmp .ge 29, 3) := dk_162 0 29 (dk_at dksX1_send_3 0 rfl rfl)
theorem dX1_send_70 : decode cX1_send 70 = .ok (.aload 4, 2) := dk_25 4 (dk_at dksX1_send_3 3 rfl rfl)
theorem dX1_send_72 : decode cX1_send 72 = .ok (.iload 5, 2) := dk_21 5 (dk_at dksX1_send_3 5 rfl rfl)
theorem dX1_send_74 : decode cX1_send 74 = .ok (.iload_n 1, 1) := dk_27 (dk_at dksX1_send_3 7 rfl rfl)
theorem dX1_send_75 : decode cX1_send 75 = .ok (.getstatic 395, 3) := dk_178 1 139 (dk_at dksX1_send_3 8 rfl rfl)
theorem dX1_send_78 : decode cX1_send 78 = .ok (.iload_n 2, 1) := dk_28 (dk_at dksX1_send_3 11 rfl rfl)
theorem dX1_send_79 : decode cX1_send 79 = .ok (.iconst 1, 1) := dk_4 (dk_at dksX1_send_3 12 rfl rfl)
theorem dX1_send_80 : decode cX1_send 80 = .ok (.isub, 1) := dk_100 (dk_at dksX1_send_3 13 rfl rfl)
theorem dX1_send_81 : decode cX1_send 81 = .ok (.iload 5, 2) := dk_21 5 (dk_at dksX1_send_3 14 rfl rfl)
theorem dX1_send_83 : decode cX1_send 83 = .ok (.isub, 1) := dk_100 (dk_at dksX1_send_3 16 rfl rfl)
theorem dX1_send_84 : decode cX1_send 84 = .ok (.iaload, 1) := dk_46 (dk_at dksX1_send_3 17 rfl rfl)
theorem dX1_send_85 : decode cX1_send 85 = .ok (.idiv, 1) := dk_108 (dk_at dksX1_send_3 18 rfl rfl)
theorem dX1_send_86 : decode cX1_send 86 = .ok (.bipush 10, 2) := dk_16 10 (dk_at dksX1_send_3 19 rfl rfl)
theorem dX1_send_88 : decode cX1_send 88 = .ok (.irem, 1) := dk_112 (dk_at dksX1_send_3 21 rfl rfl)
theorem dX1_send_89 : decode cX1_send 89 = .ok (.iastore, 1) := dk_79 (dk_at dksX1_send_3 22 rfl rfl)
theorem dX1_send_90 : decode cX1_send 90 = .ok (.iinc 5 1, 3) := dk_132 5 1 (dk_at dksX1_send_4 0 rfl rfl)
theorem dX1_send_93 : decode cX1_send 93 = .ok (.goto (-29), 3) := dk_167 255 227 (dk_at dksX1_send_4 3 rfl rfl)
theorem dX1_send_96 : decode cX1_send 96 = .ok (.aload_n 0, 1) := dk_42 (dk_at dksX1_send_4 6 rfl rfl)
theorem dX1_send_97 : decode cX1_send 97 = .ok (.invokevirtual 398, 3) := dk_182 1 142 (dk_at dksX1_send_4 7 rfl rfl)
theorem dX1_send_100 : decode cX1_send 100 = .ok (.aload 4, 2) := dk_25 4 (dk_at dksX1_send_4 10 rfl rfl)
theorem dX1_send_102 : decode cX1_send 102 = .ok (.invokevirtual 401, 3) := dk_182 1 145 (dk_at dksX1_send_4 12 rfl rfl)
theorem dX1_send_105 : decode cX1_send 105 = .ok (.ireturn, 1) := dk_172 (dk_at dksX1_send_4 15 rfl rfl)
abbrev cX1_changed : ByteArray := prog_1_method_20_code
def yX1_changed : MethodName := ⟨RX1, "changed", "()LVotingHuts$World;"⟩
def dkwX1_changed_2 : List UInt8 := [180, 0, 64, 176]
abbrev dktX1_changed_2 : List UInt8 := dkwX1_changed_2 ++ []
def dkwX1_changed_1 : List UInt8 := [42, 180, 0, 64, 182, 0, 124, 42, 187, 0, 38, 89, 42, 180, 0, 64, 183, 0, 128, 181, 0, 64, 42]
abbrev dktX1_changed_1 : List UInt8 := dkwX1_changed_1 ++ dktX1_changed_2
def dkwX1_changed_0 : List UInt8 := [42, 180, 0, 34, 182, 0, 119, 16, 8, 160, 0, 11, 42, 180, 0, 34, 182, 0, 120, 87, 42, 180, 0, 34]
abbrev dktX1_changed_0 : List UInt8 := dkwX1_changed_0 ++ dktX1_changed_1
theorem dksX1_changed_0 : cX1_changed.data.toList.drop 0 = dktX1_changed_0 := by decide +kernel
theorem dksX1_changed_1 : cX1_changed.data.toList.drop 24 = dktX1_changed_1 := dk_seg dksX1_changed_0 24 rfl rfl
theorem dksX1_changed_2 : cX1_changed.data.toList.drop 47 = dktX1_changed_2 := dk_seg dksX1_changed_1 23 rfl rfl
theorem dX1_changed_0 : decode cX1_changed 0 = .ok (.aload_n 0, 1) := dk_42 (dk_at dksX1_changed_0 0 rfl rfl)
theorem dX1_changed_1 : decode cX1_changed 1 = .ok (.getfield 34, 3) := dk_180 0 34 (dk_at dksX1_changed_0 1 rfl rfl)
theorem dX1_changed_4 : decode cX1_changed 4 = .ok (.invokevirtual 119, 3) := dk_182 0 119 (dk_at dksX1_changed_0 4 rfl rfl)
theorem dX1_changed_7 : decode cX1_changed 7 = .ok (.bipush 8, 2) := dk_16 8 (dk_at dksX1_changed_0 7 rfl rfl)
theorem dX1_changed_9 : decode cX1_changed 9 = .ok (.if_icmp .ne 11, 3) := dk_160 0 11 (dk_at dksX1_changed_0 9 rfl rfl)
theorem dX1_changed_12 : decode cX1_changed 12 = .ok (.aload_n 0, 1) := dk_42 (dk_at dksX1_changed_0 12 rfl rfl)
theorem dX1_changed_13 : decode cX1_changed 13 = .ok (.getfield 34, 3) := dk_180 0 34 (dk_at dksX1_changed_0 13 rfl rfl)
theorem dX1_changed_16 : decode cX1_changed 16 = .ok (.invokevirtual 120, 3) := dk_182 0 120 (dk_at dksX1_changed_0 16 rfl rfl)
theorem dX1_changed_19 : decode cX1_changed 19 = .ok (.pop, 1) := dk_87 (dk_at dksX1_changed_0 19 rfl rfl)
theorem dX1_changed_20 : decode cX1_changed 20 = .ok (.aload_n 0, 1) := dk_42 (dk_at dksX1_changed_0 20 rfl rfl)
theorem dX1_changed_21 : decode cX1_changed 21 = .ok (.getfield 34, 3) := dk_180 0 34 (dk_at dksX1_changed_0 21 rfl rfl)
theorem dX1_changed_24 : decode cX1_changed 24 = .ok (.aload_n 0, 1) := dk_42 (dk_at dksX1_changed_1 0 rfl rfl)
theorem dX1_changed_25 : decode cX1_changed 25 = .ok (.getfield 64, 3) := dk_180 0 64 (dk_at dksX1_changed_1 1 rfl rfl)
theorem dX1_changed_28 : decode cX1_changed 28 = .ok (.invokevirtual 124, 3) := dk_182 0 124 (dk_at dksX1_changed_1 4 rfl rfl)
theorem dX1_changed_31 : decode cX1_changed 31 = .ok (.aload_n 0, 1) := dk_42 (dk_at dksX1_changed_1 7 rfl rfl)
theorem dX1_changed_32 : decode cX1_changed 32 = .ok (.new 38, 3) := dk_187 0 38 (dk_at dksX1_changed_1 8 rfl rfl)
theorem dX1_changed_35 : decode cX1_changed 35 = .ok (.dup, 1) := dk_89 (dk_at dksX1_changed_1 11 rfl rfl)
theorem dX1_changed_36 : decode cX1_changed 36 = .ok (.aload_n 0, 1) := dk_42 (dk_at dksX1_changed_1 12 rfl rfl)
theorem dX1_changed_37 : decode cX1_changed 37 = .ok (.getfield 64, 3) := dk_180 0 64 (dk_at dksX1_changed_1 13 rfl rfl)
theorem dX1_changed_40 : decode cX1_changed 40 = .ok (.invokespecial 128, 3) := dk_183 0 128 (dk_at dksX1_changed_1 16 rfl rfl)
theorem dX1_changed_43 : decode cX1_changed 43 = .ok (.putfield 64, 3) := dk_181 0 64 (dk_at dksX1_changed_1 19 rfl rfl)
theorem dX1_changed_46 : decode cX1_changed 46 = .ok (.aload_n 0, 1) := dk_42 (dk_at dksX1_changed_1 22 rfl rfl)
theorem dX1_changed_47 : decode cX1_changed 47 = .ok (.getfield 64, 3) := dk_180 0 64 (dk_at dksX1_changed_2 0 rfl rfl)
theorem dX1_changed_50 : decode cX1_changed 50 = .ok (.areturn, 1) := dk_176 (dk_at dksX1_changed_2 3 rfl rfl)
abbrev cX1_sendSame : ByteArray := prog_1_method_73_code
def yX1_sendSame : MethodName := ⟨RX1, "sendSame", "(II)I"⟩
def dkwX1_sendSame_2 : List UInt8 := [3, 184, 0, 116, 42, 182, 1, 142, 27, 28, 184, 1, 105, 182, 1, 145, 172]
abbrev dktX1_sendSame_2 : List UInt8 := dkwX1_sendSame_2 ++ []
def dkwX1_sendSame_1 : List UInt8 := [184, 0, 54, 153, 0, 21, 45, 180, 0, 94, 185, 0, 3, 1, 0, 16, 6, 162, 0, 7, 4, 167, 0, 4]
abbrev dktX1_sendSame_1 : List UInt8 := dkwX1_sendSame_1 ++ dktX1_sendSame_2
def dkwX1_sendSame_0 : List UInt8 := [42, 182, 0, 72, 78, 27, 133, 9, 20, 0, 114, 184, 0, 54, 153, 0, 33, 28, 133, 10, 20, 1, 101]
abbrev dktX1_sendSame_0 : List UInt8 := dkwX1_sendSame_0 ++ dktX1_sendSame_1
theorem dksX1_sendSame_0 : cX1_sendSame.data.toList.drop 0 = dktX1_sendSame_0 := by decide +kernel
theorem dksX1_sendSame_1 : cX1_sendSame.data.toList.drop 23 = dktX1_sendSame_1 := dk_seg dksX1_sendSame_0 23 rfl rfl
theorem dksX1_sendSame_2 : cX1_sendSame.data.toList.drop 47 = dktX1_sendSame_2 := dk_seg dksX1_sendSame_1 24 rfl rfl
theorem dX1_sendSame_0 : decode cX1_sendSame 0 = .ok (.aload_n 0, 1) := dk_42 (dk_at dksX1_sendSame_0 0 rfl rfl)
theorem dX1_sendSame_1 : decode cX1_sendSame 1 = .ok (.invokevirtual 72, 3) := dk_182 0 72 (dk_at dksX1_sendSame_0 1 rfl rfl)
theorem dX1_sendSame_4 : decode cX1_sendSame 4 = .ok (.astore_n 3, 1) := dk_78 (dk_at dksX1_sendSame_0 4 rfl rfl)
theorem dX1_sendSame_5 : decode cX1_sendSame 5 = .ok (.iload_n 1, 1) := dk_27 (dk_at dksX1_sendSame_0 5 rfl rfl)
theorem dX1_sendSame_6 : decode cX1_sendSame 6 = .ok (.i2l, 1) := dk_133 (dk_at dksX1_sendSame_0 6 rfl rfl)
theorem dX1_sendSame_7 : decode cX1_sendSame 7 = .ok (.lconst 0, 1) := dk_9 (dk_at dksX1_sendSame_0 7 rfl rfl)
theorem dX1_sendSame_8 : decode cX1_sendSame 8 = .ok (.ldc2_w 114, 3) := dk_20 0 114 (dk_at dksX1_sendSame_0 8 rfl rfl)
theorem dX1_sendSame_11 : decode cX1_sendSame 11 = .ok (.invokestatic 54, 3) := dk_184 0 54 (dk_at dksX1_sendSame_0 11 rfl rfl)
theorem dX1_sendSame_14 : decode cX1_sendSame 14 = .ok (.ifCond .eq 33, 3) := dk_153 0 33 (dk_at dksX1_sendSame_0 14 rfl rfl)
theorem dX1_sendSame_17 : decode cX1_sendSame 17 = .ok (.iload_n 2, 1) := dk_28 (dk_at dksX1_sendSame_0 17 rfl rfl)
theorem dX1_sendSame_18 : decode cX1_sendSame 18 = .ok (.i2l, 1) := dk_133 (dk_at dksX1_sendSame_0 18 rfl rfl)
theorem dX1_sendSame_19 : decode cX1_sendSame 19 = .ok (.lconst 1, 1) := dk_10 (dk_at dksX1_sendSame_0 19 rfl rfl)
theorem dX1_sendSame_20 : decode cX1_sendSame 20 = .ok (.ldc2_w 357, 3) := dk_20 1 101 (dk_at dksX1_sendSame_0 20 rfl rfl)
theorem dX1_sendSame_23 : decode cX1_sendSame 23 = .ok (.invokestatic 54, 3) := dk_184 0 54 (dk_at dksX1_sendSame_1 0 rfl rfl)
theorem dX1_sendSame_26 : decode cX1_sendSame 26 = .ok (.ifCond .eq 21, 3) := dk_153 0 21 (dk_at dksX1_sendSame_1 3 rfl rfl)
theorem dX1_sendSame_29 : decode cX1_sendSame 29 = .ok (.aload_n 3, 1) := dk_45 (dk_at dksX1_sendSame_1 6 rfl rfl)
theorem dX1_sendSame_30 : decode cX1_sendSame 30 = .ok (.getfield 94, 3) := dk_180 0 94 (dk_at dksX1_sendSame_1 7 rfl rfl)
theorem dX1_sendSame_33 : decode cX1_sendSame 33 = .ok (.invokeinterface 3 1, 5) := by decide +kernel
theorem dX1_sendSame_38 : decode cX1_sendSame 38 = .ok (.bipush 6, 2) := dk_16 6 (dk_at dksX1_sendSame_1 15 rfl rfl)
theorem dX1_sendSame_40 : decode cX1_sendSame 40 = .ok (.if_icmp .ge 7, 3) := dk_162 0 7 (dk_at dksX1_sendSame_1 17 rfl rfl)
theorem dX1_sendSame_43 : decode cX1_sendSame 43 = .ok (.iconst 1, 1) := dk_4 (dk_at dksX1_sendSame_1 20 rfl rfl)
theorem dX1_sendSame_44 : decode cX1_sendSame 44 = .ok (.goto 4, 3) := dk_167 0 4 (dk_at dksX1_sendSame_1 21 rfl rfl)
theorem dX1_sendSame_47 : decode cX1_sendSame 47 = .ok (.iconst 0, 1) := dk_3 (dk_at dksX1_sendSame_2 0 rfl rfl)
theorem dX1_sendSame_48 : decode cX1_sendSame 48 = .ok (.invokestatic 116, 3) := dk_184 0 116 (dk_at dksX1_sendSame_2 1 rfl rfl)
theorem dX1_sendSame_51 : decode cX1_sendSame 51 = .ok (.aload_n 0, 1) := dk_42 (dk_at dksX1_sendSame_2 4 rfl rfl)
theorem dX1_sendSame_52 : decode cX1_sendSame 52 = .ok (.invokevirtual 398, 3) := dk_182 1 142 (dk_at dksX1_sendSame_2 5 rfl rfl)
theorem dX1_sendSame_55 : decode cX1_sendSame 55 = .ok (.iload_n 1, 1) := dk_27 (dk_at dksX1_sendSame_2 8 rfl rfl)
theorem dX1_sendSame_56 : decode cX1_sendSame 56 = .ok (.iload_n 2, 1) := dk_28 (dk_at dksX1_sendSame_2 9 rfl rfl)
theorem dX1_sendSame_57 : decode cX1_sendSame 57 = .ok (.invokestatic 361, 3) := dk_184 1 105 (dk_at dksX1_sendSame_2 10 rfl rfl)
theorem dX1_sendSame_60 : decode cX1_sendSame 60 = .ok (.invokevirtual 401, 3) := dk_182 1 145 (dk_at dksX1_sendSame_2 13 rfl rfl)
theorem dX1_sendSame_63 : decode cX1_sendSame 63 = .ok (.ireturn, 1) := dk_172 (dk_at dksX1_sendSame_2 16 rfl rfl)
abbrev cX1_resend : ByteArray := prog_1_method_74_code
def yX1_resend : MethodName := ⟨RX1, "resend", "(I)I"⟩
def dkwX1_resend_1 : List UInt8 := [167, 0, 4, 3, 184, 0, 116, 42, 182, 1, 142, 44, 180, 0, 245, 182, 1, 145, 172]
abbrev dktX1_resend_1 : List UInt8 := dkwX1_resend_1 ++ []
def dkwX1_resend_0 : List UInt8 := [42, 27, 182, 0, 102, 77, 42, 180, 0, 64, 180, 0, 94, 185, 0, 3, 1, 0, 16, 6, 162, 0, 7, 4]
abbrev dktX1_resend_0 : List UInt8 := dkwX1_resend_0 ++ dktX1_resend_1
theorem dksX1_resend_0 : cX1_resend.data.toList.drop 0 = dktX1_resend_0 := by decide +kernel
theorem dksX1_resend_1 : cX1_resend.data.toList.drop 24 = dktX1_resend_1 := dk_seg dksX1_resend_0 24 rfl rfl
theorem dX1_resend_0 : decode cX1_resend 0 = .ok (.aload_n 0, 1) := dk_42 (dk_at dksX1_resend_0 0 rfl rfl)
theorem dX1_resend_1 : decode cX1_resend 1 = .ok (.iload_n 1, 1) := dk_27 (dk_at dksX1_resend_0 1 rfl rfl)
theorem dX1_resend_2 : decode cX1_resend 2 = .ok (.invokevirtual 102, 3) := dk_182 0 102 (dk_at dksX1_resend_0 2 rfl rfl)
theorem dX1_resend_5 : decode cX1_resend 5 = .ok (.astore_n 2, 1) := dk_77 (dk_at dksX1_resend_0 5 rfl rfl)
theorem dX1_resend_6 : decode cX1_resend 6 = .ok (.aload_n 0, 1) := dk_42 (dk_at dksX1_resend_0 6 rfl rfl)
theorem dX1_resend_7 : decode cX1_resend 7 = .ok (.getfield 64, 3) := dk_180 0 64 (dk_at dksX1_resend_0 7 rfl rfl)
theorem dX1_resend_10 : decode cX1_resend 10 = .ok (.getfield 94, 3) := dk_180 0 94 (dk_at dksX1_resend_0 10 rfl rfl)
theorem dX1_resend_13 : decode cX1_resend 13 = .ok (.invokeinterface 3 1, 5) := by decide +kernel
theorem dX1_resend_18 : decode cX1_resend 18 = .ok (.bipush 6, 2) := dk_16 6 (dk_at dksX1_resend_0 18 rfl rfl)
theorem dX1_resend_20 : decode cX1_resend 20 = .ok (.if_icmp .ge 7, 3) := dk_162 0 7 (dk_at dksX1_resend_0 20 rfl rfl)
theorem dX1_resend_23 : decode cX1_resend 23 = .ok (.iconst 1, 1) := dk_4 (dk_at dksX1_resend_0 23 rfl rfl)
theorem dX1_resend_24 : decode cX1_resend 24 = .ok (.goto 4, 3) := dk_167 0 4 (dk_at dksX1_resend_1 0 rfl rfl)
theorem dX1_resend_27 : decode cX1_resend 27 = .ok (.iconst 0, 1) := dk_3 (dk_at dksX1_resend_1 3 rfl rfl)
theorem dX1_resend_28 : decode cX1_resend 28 = .ok (.invokestatic 116, 3) := dk_184 0 116 (dk_at dksX1_resend_1 4 rfl rfl)
theorem dX1_resend_31 : decode cX1_resend 31 = .ok (.aload_n 0, 1) := dk_42 (dk_at dksX1_resend_1 7 rfl rfl)
theorem dX1_resend_32 : decode cX1_resend 32 = .ok (.invokevirtual 398, 3) := dk_182 1 142 (dk_at dksX1_resend_1 8 rfl rfl)
theorem dX1_resend_35 : decode cX1_resend 35 = .ok (.aload_n 2, 1) := dk_44 (dk_at dksX1_resend_1 11 rfl rfl)
theorem dX1_resend_36 : decode cX1_resend 36 = .ok (.getfield 245, 3) := dk_180 0 245 (dk_at dksX1_resend_1 12 rfl rfl)
theorem dX1_resend_39 : decode cX1_resend 39 = .ok (.invokevirtual 401, 3) := dk_182 1 145 (dk_at dksX1_resend_1 15 rfl rfl)
theorem dX1_resend_42 : decode cX1_resend 42 = .ok (.ireturn, 1) := dk_172 (dk_at dksX1_resend_1 18 rfl rfl)
abbrev cX1_pass : ByteArray := prog_1_method_75_code
def yX1_pass : MethodName := ⟨RX1, "pass", "(I)I"⟩
def dkwX1_pass_1 : List UInt8 := [182, 1, 70, 172]
abbrev dktX1_pass_1 : List UInt8 := dkwX1_pass_1 ++ []
def dkwX1_pass_0 : List UInt8 := [42, 182, 0, 72, 77, 27, 133, 10, 20, 1, 66, 184, 0, 54, 184, 0, 116, 42, 182, 1, 142, 27]
abbrev dktX1_pass_0 : List UInt8 := dkwX1_pass_0 ++ dktX1_pass_1
theorem dksX1_pass_0 : cX1_pass.data.toList.drop 0 = dktX1_pass_0 := by decide +kernel
theorem dksX1_pass_1 : cX1_pass.data.toList.drop 22 = dktX1_pass_1 := dk_seg dksX1_pass_0 22 rfl rfl
theorem dX1_pass_0 : decode cX1_pass 0 = .ok (.aload_n 0, 1) := dk_42 (dk_at dksX1_pass_0 0 rfl rfl)
theorem dX1_pass_1 : decode cX1_pass 1 = .ok (.invokevirtual 72, 3) := dk_182 0 72 (dk_at dksX1_pass_0 1 rfl rfl)
theorem dX1_pass_4 : decode cX1_pass 4 = .ok (.astore_n 2, 1) := dk_77 (dk_at dksX1_pass_0 4 rfl rfl)
theorem dX1_pass_5 : decode cX1_pass 5 = .ok (.iload_n 1, 1) := dk_27 (dk_at dksX1_pass_0 5 rfl rfl)
theorem dX1_pass_6 : decode cX1_pass 6 = .ok (.i2l, 1) := dk_133 (dk_at dksX1_pass_0 6 rfl rfl)
theorem dX1_pass_7 : decode cX1_pass 7 = .ok (.lconst 1, 1) := dk_10 (dk_at dksX1_pass_0 7 rfl rfl)
theorem dX1_pass_8 : decode cX1_pass 8 = .ok (.ldc2_w 322, 3) := dk_20 1 66 (dk_at dksX1_pass_0 8 rfl rfl)
theorem dX1_pass_11 : decode cX1_pass 11 = .ok (.invokestatic 54, 3) := dk_184 0 54 (dk_at dksX1_pass_0 11 rfl rfl)
theorem dX1_pass_14 : decode cX1_pass 14 = .ok (.invokestatic 116, 3) := dk_184 0 116 (dk_at dksX1_pass_0 14 rfl rfl)
theorem dX1_pass_17 : decode cX1_pass 17 = .ok (.aload_n 0, 1) := dk_42 (dk_at dksX1_pass_0 17 rfl rfl)
theorem dX1_pass_18 : decode cX1_pass 18 = .ok (.invokevirtual 398, 3) := dk_182 1 142 (dk_at dksX1_pass_0 18 rfl rfl)
theorem dX1_pass_21 : decode cX1_pass 21 = .ok (.iload_n 1, 1) := dk_27 (dk_at dksX1_pass_0 21 rfl rfl)
theorem dX1_pass_22 : decode cX1_pass 22 = .ok (.invokevirtual 326, 3) := dk_182 1 70 (dk_at dksX1_pass_1 0 rfl rfl)
theorem dX1_pass_25 : decode cX1_pass 25 = .ok (.ireturn, 1) := dk_172 (dk_at dksX1_pass_1 3 rfl rfl)
abbrev cX1_setStorm : ByteArray := prog_1_method_76_code
def yX1_setStorm : MethodName := ⟨RX1, "setStorm", "(III)I"⟩
def dkwX1_setStorm_1 : List UInt8 := [180, 0, 87, 58, 5, 25, 5, 180, 0, 186, 27, 28, 79, 25, 5, 180, 0, 190, 27, 29, 79, 21, 4, 172]
abbrev dktX1_setStorm_1 : List UInt8 := dkwX1_setStorm_1 ++ []
def dkwX1_setStorm_0 : List UInt8 := [42, 27, 182, 1, 149, 180, 0, 87, 180, 0, 186, 27, 46, 54, 4, 28, 29, 184, 1, 84, 42, 182, 1, 142]
abbrev dktX1_setStorm_0 : List UInt8 := dkwX1_setStorm_0 ++ dktX1_setStorm_1
theorem dksX1_setStorm_0 : cX1_setStorm.data.toList.drop 0 = dktX1_setStorm_0 := by decide +kernel
theorem dksX1_setStorm_1 : cX1_setStorm.data.toList.drop 24 = dktX1_setStorm_1 := dk_seg dksX1_setStorm_0 24 rfl rfl
theorem dX1_setStorm_0 : decode cX1_setStorm 0 = .ok (.aload_n 0, 1) := dk_42 (dk_at dksX1_setStorm_0 0 rfl rfl)
theorem dX1_setStorm_1 : decode cX1_setStorm 1 = .ok (.iload_n 1, 1) := dk_27 (dk_at dksX1_setStorm_0 1 rfl rfl)
theorem dX1_setStorm_2 : decode cX1_setStorm 2 = .ok (.invokevirtual 405, 3) := dk_182 1 149 (dk_at dksX1_setStorm_0 2 rfl rfl)
theorem dX1_setStorm_5 : decode cX1_setStorm 5 = .ok (.getfield 87, 3) := dk_180 0 87 (dk_at dksX1_setStorm_0 5 rfl rfl)
theorem dX1_setStorm_8 : decode cX1_setStorm 8 = .ok (.getfield 186, 3) := dk_180 0 186 (dk_at dksX1_setStorm_0 8 rfl rfl)
theorem dX1_setStorm_11 : decode cX1_setStorm 11 = .ok (.iload_n 1, 1) := dk_27 (dk_at dksX1_setStorm_0 11 rfl rfl)
theorem dX1_setStorm_12 : decode cX1_setStorm 12 = .ok (.iaload, 1) := dk_46 (dk_at dksX1_setStorm_0 12 rfl rfl)
theorem dX1_setStorm_13 : decode cX1_setStorm 13 = .ok (.istore 4, 2) := dk_54 4 (dk_at dksX1_setStorm_0 13 rfl rfl)
theorem dX1_setStorm_15 : decode cX1_setStorm 15 = .ok (.iload_n 2, 1) := dk_28 (dk_at dksX1_setStorm_0 15 rfl rfl)
theorem dX1_setStorm_16 : decode cX1_setStorm 16 = .ok (.iload_n 3, 1) := dk_29 (dk_at dksX1_setStorm_0 16 rfl rfl)
theorem dX1_setStorm_17 : decode cX1_setStorm 17 = .ok (.invokestatic 340, 3) := dk_184 1 84 (dk_at dksX1_setStorm_0 17 rfl rfl)
theorem dX1_setStorm_20 : decode cX1_setStorm 20 = .ok (.aload_n 0, 1) := dk_42 (dk_at dksX1_setStorm_0 20 rfl rfl)
theorem dX1_setStorm_21 : decode cX1_setStorm 21 = .ok (.invokevirtual 398, 3) := dk_182 1 142 (dk_at dksX1_setStorm_0 21 rfl rfl)
theorem dX1_setStorm_24 : decode cX1_setStorm 24 = .ok (.getfield 87, 3) := dk_180 0 87 (dk_at dksX1_setStorm_1 0 rfl rfl)
theorem dX1_setStorm_27 : decode cX1_setStorm 27 = .ok (.astore 5, 2) := dk_58 5 (dk_at dksX1_setStorm_1 3 rfl rfl)
theorem dX1_setStorm_29 : decode cX1_setStorm 29 = .ok (.aload 5, 2) := dk_25 5 (dk_at dksX1_setStorm_1 5 rfl rfl)
theorem dX1_setStorm_31 : decode cX1_setStorm 31 = .ok (.getfield 186, 3) := dk_180 0 186 (dk_at dksX1_setStorm_1 7 rfl rfl)
theorem dX1_setStorm_34 : decode cX1_setStorm 34 = .ok (.iload_n 1, 1) := dk_27 (dk_at dksX1_setStorm_1 10 rfl rfl)
theorem dX1_setStorm_35 : decode cX1_setStorm 35 = .ok (.iload_n 2, 1) := dk_28 (dk_at dksX1_setStorm_1 11 rfl rfl)
theorem dX1_setStorm_36 : decode cX1_setStorm 36 = .ok (.iastore, 1) := dk_79 (dk_at dksX1_setStorm_1 12 rfl rfl)
theorem dX1_setStorm_37 : decode cX1_setStorm 37 = .ok (.aload 5, 2) := dk_25 5 (dk_at dksX1_setStorm_1 13 rfl rfl)
theorem dX1_setStorm_39 : decode cX1_setStorm 39 = .ok (.getfield 190, 3) := dk_180 0 190 (dk_at dksX1_setStorm_1 15 rfl rfl)
theorem dX1_setStorm_42 : decode cX1_setStorm 42 = .ok (.iload_n 1, 1) := dk_27 (dk_at dksX1_setStorm_1 18 rfl rfl)
theorem dX1_setStorm_43 : decode cX1_setStorm 43 = .ok (.iload_n 3, 1) := dk_29 (dk_at dksX1_setStorm_1 19 rfl rfl)
theorem dX1_setStorm_44 : decode cX1_setStorm 44 = .ok (.iastore, 1) := dk_79 (dk_at dksX1_setStorm_1 20 rfl rfl)
theorem dX1_setStorm_45 : decode cX1_setStorm 45 = .ok (.iload 4, 2) := dk_21 4 (dk_at dksX1_setStorm_1 21 rfl rfl)
theorem dX1_setStorm_47 : decode cX1_setStorm 47 = .ok (.ireturn, 1) := dk_172 (dk_at dksX1_setStorm_1 23 rfl rfl)
abbrev cX1_checkWire_2 : ByteArray := prog_1_method_13_code
def yX1_checkWire_2 : MethodName := ⟨RX1, "checkWire", "(I)LVotingHuts$World;"⟩
def dkwX1_checkWire_2_0 : List UInt8 := [42, 182, 0, 72, 77, 27, 44, 180, 0, 87, 182, 0, 91, 184, 0, 79, 44, 176]
abbrev dktX1_checkWire_2_0 : List UInt8 := dkwX1_checkWire_2_0 ++ []
theorem dksX1_checkWire_2_0 : cX1_checkWire_2.data.toList.drop 0 = dktX1_checkWire_2_0 := by decide +kernel
theorem dX1_checkWire_2_0 : decode cX1_checkWire_2 0 = .ok (.aload_n 0, 1) := dk_42 (dk_at dksX1_checkWire_2_0 0 rfl rfl)
theorem dX1_checkWire_2_1 : decode cX1_checkWire_2 1 = .ok (.invokevirtual 72, 3) := dk_182 0 72 (dk_at dksX1_checkWire_2_0 1 rfl rfl)
theorem dX1_checkWire_2_4 : decode cX1_checkWire_2 4 = .ok (.astore_n 2, 1) := dk_77 (dk_at dksX1_checkWire_2_0 4 rfl rfl)
theorem dX1_checkWire_2_5 : decode cX1_checkWire_2 5 = .ok (.iload_n 1, 1) := dk_27 (dk_at dksX1_checkWire_2_0 5 rfl rfl)
theorem dX1_checkWire_2_6 : decode cX1_checkWire_2 6 = .ok (.aload_n 2, 1) := dk_44 (dk_at dksX1_checkWire_2_0 6 rfl rfl)
theorem dX1_checkWire_2_7 : decode cX1_checkWire_2 7 = .ok (.getfield 87, 3) := dk_180 0 87 (dk_at dksX1_checkWire_2_0 7 rfl rfl)
theorem dX1_checkWire_2_10 : decode cX1_checkWire_2 10 = .ok (.invokevirtual 91, 3) := dk_182 0 91 (dk_at dksX1_checkWire_2_0 10 rfl rfl)
theorem dX1_checkWire_2_13 : decode cX1_checkWire_2 13 = .ok (.invokestatic 79, 3) := dk_184 0 79 (dk_at dksX1_checkWire_2_0 13 rfl rfl)
theorem dX1_checkWire_2_16 : decode cX1_checkWire_2 16 = .ok (.aload_n 2, 1) := dk_44 (dk_at dksX1_checkWire_2_0 16 rfl rfl)
theorem dX1_checkWire_2_17 : decode cX1_checkWire_2 17 = .ok (.areturn, 1) := dk_176 (dk_at dksX1_checkWire_2_0 17 rfl rfl)
abbrev cX1_calm : ByteArray := prog_1_method_77_code
def yX1_calm : MethodName := ⟨RX1, "calm", "()I"⟩
def dkwX1_calm_0 : List UInt8 := [42, 182, 0, 72, 76, 42, 182, 1, 142, 180, 0, 87, 182, 1, 152, 172]
abbrev dktX1_calm_0 : List UInt8 := dkwX1_calm_0 ++ []
theorem dksX1_calm_0 : cX1_calm.data.toList.drop 0 = dktX1_calm_0 := by decide +kernel
theorem dX1_calm_0 : decode cX1_calm 0 = .ok (.aload_n 0, 1) := dk_42 (dk_at dksX1_calm_0 0 rfl rfl)
theorem dX1_calm_1 : decode cX1_calm 1 = .ok (.invokevirtual 72, 3) := dk_182 0 72 (dk_at dksX1_calm_0 1 rfl rfl)
theorem dX1_calm_4 : decode cX1_calm 4 = .ok (.astore_n 1, 1) := dk_76 (dk_at dksX1_calm_0 4 rfl rfl)
theorem dX1_calm_5 : decode cX1_calm 5 = .ok (.aload_n 0, 1) := dk_42 (dk_at dksX1_calm_0 5 rfl rfl)
theorem dX1_calm_6 : decode cX1_calm 6 = .ok (.invokevirtual 398, 3) := dk_182 1 142 (dk_at dksX1_calm_0 6 rfl rfl)
theorem dX1_calm_9 : decode cX1_calm 9 = .ok (.getfield 87, 3) := dk_180 0 87 (dk_at dksX1_calm_0 9 rfl rfl)
theorem dX1_calm_12 : decode cX1_calm 12 = .ok (.invokevirtual 408, 3) := dk_182 1 152 (dk_at dksX1_calm_0 12 rfl rfl)
theorem dX1_calm_15 : decode cX1_calm 15 = .ok (.ireturn, 1) := dk_172 (dk_at dksX1_calm_0 15 rfl rfl)
abbrev cX1_turnWire : ByteArray := prog_1_method_78_code
def yX1_turnWire : MethodName := ⟨RX1, "turnWire", "(I)I"⟩
def dkwX1_turnWire_1 : List UInt8 := [51, 154, 0, 7, 4, 167, 0, 4, 3, 84, 45, 180, 0, 193, 27, 51, 184, 0, 197, 172]
abbrev dktX1_turnWire_1 : List UInt8 := dkwX1_turnWire_1 ++ []
def dkwX1_turnWire_0 : List UInt8 := [42, 27, 182, 1, 149, 77, 42, 182, 1, 142, 180, 0, 87, 78, 45, 180, 0, 193, 27, 45, 180, 0, 193, 27]
abbrev dktX1_turnWire_0 : List UInt8 := dkwX1_turnWire_0 ++ dktX1_turnWire_1
theorem dksX1_turnWire_0 : cX1_turnWire.data.toList.drop 0 = dktX1_turnWire_0 := by decide +kernel
theorem dksX1_turnWire_1 : cX1_turnWire.data.toList.drop 24 = dktX1_turnWire_1 := dk_seg dksX1_turnWire_0 24 rfl rfl
theorem dX1_turnWire_0 : decode cX1_turnWire 0 = .ok (.aload_n 0, 1) := dk_42 (dk_at dksX1_turnWire_0 0 rfl rfl)
theorem dX1_turnWire_1 : decode cX1_turnWire 1 = .ok (.iload_n 1, 1) := dk_27 (dk_at dksX1_turnWire_0 1 rfl rfl)
theorem dX1_turnWire_2 : decode cX1_turnWire 2 = .ok (.invokevirtual 405, 3) := dk_182 1 149 (dk_at dksX1_turnWire_0 2 rfl rfl)
theorem dX1_turnWire_5 : decode cX1_turnWire 5 = .ok (.astore_n 2, 1) := dk_77 (dk_at dksX1_turnWire_0 5 rfl rfl)
theorem dX1_turnWire_6 : decode cX1_turnWire 6 = .ok (.aload_n 0, 1) := dk_42 (dk_at dksX1_turnWire_0 6 rfl rfl)
theorem dX1_turnWire_7 : decode cX1_turnWire 7 = .ok (.invokevirtual 398, 3) := dk_182 1 142 (dk_at dksX1_turnWire_0 7 rfl rfl)
theorem dX1_turnWire_10 : decode cX1_turnWire 10 = .ok (.getfield 87, 3) := dk_180 0 87 (dk_at dksX1_turnWire_0 10 rfl rfl)
theorem dX1_turnWire_13 : decode cX1_turnWire 13 = .ok (.astore_n 3, 1) := dk_78 (dk_at dksX1_turnWire_0 13 rfl rfl)
theorem dX1_turnWire_14 : decode cX1_turnWire 14 = .ok (.aload_n 3, 1) := dk_45 (dk_at dksX1_turnWire_0 14 rfl rfl)
theorem dX1_turnWire_15 : decode cX1_turnWire 15 = .ok (.getfield 193, 3) := dk_180 0 193 (dk_at dksX1_turnWire_0 15 rfl rfl)
theorem dX1_turnWire_18 : decode cX1_turnWire 18 = .ok (.iload_n 1, 1) := dk_27 (dk_at dksX1_turnWire_0 18 rfl rfl)
theorem dX1_turnWire_19 : decode cX1_turnWire 19 = .ok (.aload_n 3, 1) := dk_45 (dk_at dksX1_turnWire_0 19 rfl rfl)
theorem dX1_turnWire_20 : decode cX1_turnWire 20 = .ok (.getfield 193, 3) := dk_180 0 193 (dk_at dksX1_turnWire_0 20 rfl rfl)
theorem dX1_turnWire_23 : decode cX1_turnWire 23 = .ok (.iload_n 1, 1) := dk_27 (dk_at dksX1_turnWire_0 23 rfl rfl)
theorem dX1_turnWire_24 : decode cX1_turnWire 24 = .ok (.baload, 1) := dk_51 (dk_at dksX1_turnWire_1 0 rfl rfl)
theorem dX1_turnWire_25 : decode cX1_turnWire 25 = .ok (.ifCond .ne 7, 3) := dk_154 0 7 (dk_at dksX1_turnWire_1 1 rfl rfl)
theorem dX1_turnWire_28 : decode cX1_turnWire 28 = .ok (.iconst 1, 1) := dk_4 (dk_at dksX1_turnWire_1 4 rfl rfl)
theorem dX1_turnWire_29 : decode cX1_turnWire 29 = .ok (.goto 4, 3) := dk_167 0 4 (dk_at dksX1_turnWire_1 5 rfl rfl)
theorem dX1_turnWire_32 : decode cX1_turnWire 32 = .ok (.iconst 0, 1) := dk_3 (dk_at dksX1_turnWire_1 8 rfl rfl)
theorem dX1_turnWire_33 : decode cX1_turnWire 33 = .ok (.bastore, 1) := dk_84 (dk_at dksX1_turnWire_1 9 rfl rfl)
theorem dX1_turnWire_34 : decode cX1_turnWire 34 = .ok (.aload_n 3, 1) := dk_45 (dk_at dksX1_turnWire_1 10 rfl rfl)
theorem dX1_turnWire_35 : decode cX1_turnWire 35 = .ok (.getfield 193, 3) := dk_180 0 193 (dk_at dksX1_turnWire_1 11 rfl rfl)
theorem dX1_turnWire_38 : decode cX1_turnWire 38 = .ok (.iload_n 1, 1) := dk_27 (dk_at dksX1_turnWire_1 14 rfl rfl)
theorem dX1_turnWire_39 : decode cX1_turnWire 39 = .ok (.baload, 1) := dk_51 (dk_at dksX1_turnWire_1 15 rfl rfl)
theorem dX1_turnWire_40 : decode cX1_turnWire 40 = .ok (.invokestatic 197, 3) := dk_184 0 197 (dk_at dksX1_turnWire_1 16 rfl rfl)
theorem dX1_turnWire_43 : decode cX1_turnWire 43 = .ok (.ireturn, 1) := dk_172 (dk_at dksX1_turnWire_1 19 rfl rfl)
abbrev cX1_mendAll : ByteArray := prog_1_method_79_code
def yX1_mendAll : MethodName := ⟨RX1, "mendAll", "()I"⟩
def dkwX1_mendAll_0 : List UInt8 := [42, 182, 0, 72, 76, 42, 182, 1, 142, 180, 0, 87, 182, 1, 155, 172]
abbrev dktX1_mendAll_0 : List UInt8 := dkwX1_mendAll_0 ++ []
theorem dksX1_mendAll_0 : cX1_mendAll.data.toList.drop 0 = dktX1_mendAll_0 := by decide +kernel
theorem dX1_mendAll_0 : decode cX1_mendAll 0 = .ok (.aload_n 0, 1) := dk_42 (dk_at dksX1_mendAll_0 0 rfl rfl)
theorem dX1_mendAll_1 : decode cX1_mendAll 1 = .ok (.invokevirtual 72, 3) := dk_182 0 72 (dk_at dksX1_mendAll_0 1 rfl rfl)
theorem dX1_mendAll_4 : decode cX1_mendAll 4 = .ok (.astore_n 1, 1) := dk_76 (dk_at dksX1_mendAll_0 4 rfl rfl)
theorem dX1_mendAll_5 : decode cX1_mendAll 5 = .ok (.aload_n 0, 1) := dk_42 (dk_at dksX1_mendAll_0 5 rfl rfl)
theorem dX1_mendAll_6 : decode cX1_mendAll 6 = .ok (.invokevirtual 398, 3) := dk_182 1 142 (dk_at dksX1_mendAll_0 6 rfl rfl)
theorem dX1_mendAll_9 : decode cX1_mendAll 9 = .ok (.getfield 87, 3) := dk_180 0 87 (dk_at dksX1_mendAll_0 9 rfl rfl)
theorem dX1_mendAll_12 : decode cX1_mendAll 12 = .ok (.invokevirtual 411, 3) := dk_182 1 155 (dk_at dksX1_mendAll_0 12 rfl rfl)
theorem dX1_mendAll_15 : decode cX1_mendAll 15 = .ok (.ireturn, 1) := dk_172 (dk_at dksX1_mendAll_0 15 rfl rfl)
abbrev cX1_turnLevel : ByteArray := prog_1_method_80_code
def yX1_turnLevel : MethodName := ⟨RX1, "turnLevel", "(I)I"⟩
def dkwX1_turnLevel_0 : List UInt8 := [42, 27, 3, 3, 182, 0, 183, 61, 42, 182, 1, 142, 180, 0, 87, 27, 182, 1, 158, 172]
abbrev dktX1_turnLevel_0 : List UInt8 := dkwX1_turnLevel_0 ++ []
theorem dksX1_turnLevel_0 : cX1_turnLevel.data.toList.drop 0 = dktX1_turnLevel_0 := by decide +kernel
theorem dX1_turnLevel_0 : decode cX1_turnLevel 0 = .ok (.aload_n 0, 1) := dk_42 (dk_at dksX1_turnLevel_0 0 rfl rfl)
theorem dX1_turnLevel_1 : decode cX1_turnLevel 1 = .ok (.iload_n 1, 1) := dk_27 (dk_at dksX1_turnLevel_0 1 rfl rfl)
theorem dX1_turnLevel_2 : decode cX1_turnLevel 2 = .ok (.iconst 0, 1) := dk_3 (dk_at dksX1_turnLevel_0 2 rfl rfl)
theorem dX1_turnLevel_3 : decode cX1_turnLevel 3 = .ok (.iconst 0, 1) := dk_3 (dk_at dksX1_turnLevel_0 3 rfl rfl)
theorem dX1_turnLevel_4 : decode cX1_turnLevel 4 = .ok (.invokevirtual 183, 3) := dk_182 0 183 (dk_at dksX1_turnLevel_0 4 rfl rfl)
theorem dX1_turnLevel_7 : decode cX1_turnLevel 7 = .ok (.istore_n 2, 1) := dk_61 (dk_at dksX1_turnLevel_0 7 rfl rfl)
theorem dX1_turnLevel_8 : decode cX1_turnLevel 8 = .ok (.aload_n 0, 1) := dk_42 (dk_at dksX1_turnLevel_0 8 rfl rfl)
theorem dX1_turnLevel_9 : decode cX1_turnLevel 9 = .ok (.invokevirtual 398, 3) := dk_182 1 142 (dk_at dksX1_turnLevel_0 9 rfl rfl)
theorem dX1_turnLevel_12 : decode cX1_turnLevel 12 = .ok (.getfield 87, 3) := dk_180 0 87 (dk_at dksX1_turnLevel_0 12 rfl rfl)
theorem dX1_turnLevel_15 : decode cX1_turnLevel 15 = .ok (.iload_n 1, 1) := dk_27 (dk_at dksX1_turnLevel_0 15 rfl rfl)
theorem dX1_turnLevel_16 : decode cX1_turnLevel 16 = .ok (.invokevirtual 414, 3) := dk_182 1 158 (dk_at dksX1_turnLevel_0 16 rfl rfl)
theorem dX1_turnLevel_19 : decode cX1_turnLevel 19 = .ok (.ireturn, 1) := dk_172 (dk_at dksX1_turnLevel_0 19 rfl rfl)
abbrev cX1_setAsks : ByteArray := prog_1_method_81_code
def yX1_setAsks : MethodName := ⟨RX1, "setAsks", "(I)I"⟩
def dkwX1_setAsks_1 : List UInt8 := [181, 0, 158, 44, 180, 0, 158, 172]
abbrev dktX1_setAsks_1 : List UInt8 := dkwX1_setAsks_1 ++ []
def dkwX1_setAsks_0 : List UInt8 := [42, 182, 0, 72, 77, 27, 133, 9, 20, 1, 161, 184, 0, 54, 184, 0, 116, 42, 182, 1, 142, 27]
abbrev dktX1_setAsks_0 : List UInt8 := dkwX1_setAsks_0 ++ dktX1_setAsks_1
theorem dksX1_setAsks_0 : cX1_setAsks.data.toList.drop 0 = dktX1_setAsks_0 := by decide +kernel
theorem dksX1_setAsks_1 : cX1_setAsks.data.toList.drop 22 = dktX1_setAsks_1 := dk_seg dksX1_setAsks_0 22 rfl rfl
theorem dX1_setAsks_0 : decode cX1_setAsks 0 = .ok (.aload_n 0, 1) := dk_42 (dk_at dksX1_setAsks_0 0 rfl rfl)
theorem dX1_setAsks_1 : decode cX1_setAsks 1 = .ok (.invokevirtual 72, 3) := dk_182 0 72 (dk_at dksX1_setAsks_0 1 rfl rfl)
theorem dX1_setAsks_4 : decode cX1_setAsks 4 = .ok (.astore_n 2, 1) := dk_77 (dk_at dksX1_setAsks_0 4 rfl rfl)
theorem dX1_setAsks_5 : decode cX1_setAsks 5 = .ok (.iload_n 1, 1) := dk_27 (dk_at dksX1_setAsks_0 5 rfl rfl)
theorem dX1_setAsks_6 : decode cX1_setAsks 6 = .ok (.i2l, 1) := dk_133 (dk_at dksX1_setAsks_0 6 rfl rfl)
theorem dX1_setAsks_7 : decode cX1_setAsks 7 = .ok (.lconst 0, 1) := dk_9 (dk_at dksX1_setAsks_0 7 rfl rfl)
theorem dX1_setAsks_8 : decode cX1_setAsks 8 = .ok (.ldc2_w 417, 3) := dk_20 1 161 (dk_at dksX1_setAsks_0 8 rfl rfl)
theorem dX1_setAsks_11 : decode cX1_setAsks 11 = .ok (.invokestatic 54, 3) := dk_184 0 54 (dk_at dksX1_setAsks_0 11 rfl rfl)
theorem dX1_setAsks_14 : decode cX1_setAsks 14 = .ok (.invokestatic 116, 3) := dk_184 0 116 (dk_at dksX1_setAsks_0 14 rfl rfl)
theorem dX1_setAsks_17 : decode cX1_setAsks 17 = .ok (.aload_n 0, 1) := dk_42 (dk_at dksX1_setAsks_0 17 rfl rfl)
theorem dX1_setAsks_18 : decode cX1_setAsks 18 = .ok (.invokevirtual 398, 3) := dk_182 1 142 (dk_at dksX1_setAsks_0 18 rfl rfl)
theorem dX1_setAsks_21 : decode cX1_setAsks 21 = .ok (.iload_n 1, 1) := dk_27 (dk_at dksX1_setAsks_0 21 rfl rfl)
theorem dX1_setAsks_22 : decode cX1_setAsks 22 = .ok (.putfield 158, 3) := dk_181 0 158 (dk_at dksX1_setAsks_1 0 rfl rfl)
theorem dX1_setAsks_25 : decode cX1_setAsks 25 = .ok (.aload_n 2, 1) := dk_44 (dk_at dksX1_setAsks_1 3 rfl rfl)
theorem dX1_setAsks_26 : decode cX1_setAsks 26 = .ok (.getfield 158, 3) := dk_180 0 158 (dk_at dksX1_setAsks_1 4 rfl rfl)
theorem dX1_setAsks_29 : decode cX1_setAsks 29 = .ok (.ireturn, 1) := dk_172 (dk_at dksX1_setAsks_1 7 rfl rfl)
abbrev cX1_drop : ByteArray := prog_1_method_82_code
def yX1_drop : MethodName := ⟨RX1, "drop", "(I)I"⟩
def dkwX1_drop_1 : List UInt8 := [27, 182, 1, 163, 42, 180, 0, 64, 180, 0, 94, 185, 0, 3, 1, 0, 172]
abbrev dktX1_drop_1 : List UInt8 := dkwX1_drop_1 ++ []
def dkwX1_drop_0 : List UInt8 := [42, 27, 182, 0, 102, 180, 0, 237, 2, 159, 0, 7, 4, 167, 0, 4, 3, 184, 0, 116, 42, 182, 1, 142]
abbrev dktX1_drop_0 : List UInt8 := dkwX1_drop_0 ++ dktX1_drop_1
theorem dksX1_drop_0 : cX1_drop.data.toList.drop 0 = dktX1_drop_0 := by decide +kernel
theorem dksX1_drop_1 : cX1_drop.data.toList.drop 24 = dktX1_drop_1 := dk_seg dksX1_drop_0 24 rfl rfl
theorem dX1_drop_0 : decode cX1_drop 0 = .ok (.aload_n 0, 1) := dk_42 (dk_at dksX1_drop_0 0 rfl rfl)
theorem dX1_drop_1 : decode cX1_drop 1 = .ok (.iload_n 1, 1) := dk_27 (dk_at dksX1_drop_0 1 rfl rfl)
theorem dX1_drop_2 : decode cX1_drop 2 = .ok (.invokevirtual 102, 3) := dk_182 0 102 (dk_at dksX1_drop_0 2 rfl rfl)
theorem dX1_drop_5 : decode cX1_drop 5 = .ok (.getfield 237, 3) := dk_180 0 237 (dk_at dksX1_drop_0 5 rfl rfl)
theorem dX1_drop_8 : decode cX1_drop 8 = .ok (.iconst (-1), 1) := dk_2 (dk_at dksX1_drop_0 8 rfl rfl)
theorem dX1_drop_9 : decode cX1_drop 9 = .ok (.if_icmp .eq 7, 3) := dk_159 0 7 (dk_at dksX1_drop_0 9 rfl rfl)
theorem dX1_drop_12 : decode cX1_drop 12 = .ok (.iconst 1, 1) := dk_4 (dk_at dksX1_drop_0 12 rfl rfl)
theorem dX1_drop_13 : decode cX1_drop 13 = .ok (.goto 4, 3) := dk_167 0 4 (dk_at dksX1_drop_0 13 rfl rfl)
theorem dX1_drop_16 : decode cX1_drop 16 = .ok (.iconst 0, 1) := dk_3 (dk_at dksX1_drop_0 16 rfl rfl)
theorem dX1_drop_17 : decode cX1_drop 17 = .ok (.invokestatic 116, 3) := dk_184 0 116 (dk_at dksX1_drop_0 17 rfl rfl)
theorem dX1_drop_20 : decode cX1_drop 20 = .ok (.aload_n 0, 1) := dk_42 (dk_at dksX1_drop_0 20 rfl rfl)
theorem dX1_drop_21 : decode cX1_drop 21 = .ok (.invokevirtual 398, 3) := dk_182 1 142 (dk_at dksX1_drop_0 21 rfl rfl)
theorem dX1_drop_24 : decode cX1_drop 24 = .ok (.iload_n 1, 1) := dk_27 (dk_at dksX1_drop_1 0 rfl rfl)
theorem dX1_drop_25 : decode cX1_drop 25 = .ok (.invokevirtual 419, 3) := dk_182 1 163 (dk_at dksX1_drop_1 1 rfl rfl)
theorem dX1_drop_28 : decode cX1_drop 28 = .ok (.aload_n 0, 1) := dk_42 (dk_at dksX1_drop_1 4 rfl rfl)
theorem dX1_drop_29 : decode cX1_drop 29 = .ok (.getfield 64, 3) := dk_180 0 64 (dk_at dksX1_drop_1 5 rfl rfl)
theorem dX1_drop_32 : decode cX1_drop 32 = .ok (.getfield 94, 3) := dk_180 0 94 (dk_at dksX1_drop_1 8 rfl rfl)
theorem dX1_drop_35 : decode cX1_drop 35 = .ok (.invokeinterface 3 1, 5) := by decide +kernel
theorem dX1_drop_40 : decode cX1_drop 40 = .ok (.ireturn, 1) := dk_172 (dk_at dksX1_drop_1 16 rfl rfl)
abbrev cX1_undo : ByteArray := prog_1_method_83_code
def yX1_undo : MethodName := ⟨RX1, "undo", "()I"⟩
def dkwX1_undo_1 : List UInt8 := [182, 1, 169, 192, 0, 38, 181, 0, 64, 42, 180, 0, 34, 182, 0, 119, 172]
abbrev dktX1_undo_1 : List UInt8 := dkwX1_undo_1 ++ []
def dkwX1_undo_0 : List UInt8 := [42, 180, 0, 34, 182, 1, 166, 154, 0, 7, 4, 167, 0, 4, 3, 184, 0, 68, 42, 42, 180, 0, 34]
abbrev dktX1_undo_0 : List UInt8 := dkwX1_undo_0 ++ dktX1_undo_1
theorem dksX1_undo_0 : cX1_undo.data.toList.drop 0 = dktX1_undo_0 := by decide +kernel
theorem dksX1_undo_1 : cX1_undo.data.toList.drop 23 = dktX1_undo_1 := dk_seg dksX1_undo_0 23 rfl rfl
theorem dX1_undo_0 : decode cX1_undo 0 = .ok (.aload_n 0, 1) := dk_42 (dk_at dksX1_undo_0 0 rfl rfl)
theorem dX1_undo_1 : decode cX1_undo 1 = .ok (.getfield 34, 3) := dk_180 0 34 (dk_at dksX1_undo_0 1 rfl rfl)
theorem dX1_undo_4 : decode cX1_undo 4 = .ok (.invokevirtual 422, 3) := dk_182 1 166 (dk_at dksX1_undo_0 4 rfl rfl)
theorem dX1_undo_7 : decode cX1_undo 7 = .ok (.ifCond .ne 7, 3) := dk_154 0 7 (dk_at dksX1_undo_0 7 rfl rfl)
theorem dX1_undo_10 : decode cX1_undo 10 = .ok (.iconst 1, 1) := dk_4 (dk_at dksX1_undo_0 10 rfl rfl)
theorem dX1_undo_11 : decode cX1_undo 11 = .ok (.goto 4, 3) := dk_167 0 4 (dk_at dksX1_undo_0 11 rfl rfl)
theorem dX1_undo_14 : decode cX1_undo 14 = .ok (.iconst 0, 1) := dk_3 (dk_at dksX1_undo_0 14 rfl rfl)
theorem dX1_undo_15 : decode cX1_undo 15 = .ok (.invokestatic 68, 3) := dk_184 0 68 (dk_at dksX1_undo_0 15 rfl rfl)
theorem dX1_undo_18 : decode cX1_undo 18 = .ok (.aload_n 0, 1) := dk_42 (dk_at dksX1_undo_0 18 rfl rfl)
theorem dX1_undo_19 : decode cX1_undo 19 = .ok (.aload_n 0, 1) := dk_42 (dk_at dksX1_undo_0 19 rfl rfl)
theorem dX1_undo_20 : decode cX1_undo 20 = .ok (.getfield 34, 3) := dk_180 0 34 (dk_at dksX1_undo_0 20 rfl rfl)
theorem dX1_undo_23 : decode cX1_undo 23 = .ok (.invokevirtual 425, 3) := dk_182 1 169 (dk_at dksX1_undo_1 0 rfl rfl)
theorem dX1_undo_26 : decode cX1_undo 26 = .ok (.checkcast 38, 3) := dk_192 0 38 (dk_at dksX1_undo_1 3 rfl rfl)
theorem dX1_undo_29 : decode cX1_undo 29 = .ok (.putfield 64, 3) := dk_181 0 64 (dk_at dksX1_undo_1 6 rfl rfl)
theorem dX1_undo_32 : decode cX1_undo 32 = .ok (.aload_n 0, 1) := dk_42 (dk_at dksX1_undo_1 9 rfl rfl)
theorem dX1_undo_33 : decode cX1_undo 33 = .ok (.getfield 34, 3) := dk_180 0 34 (dk_at dksX1_undo_1 10 rfl rfl)
theorem dX1_undo_36 : decode cX1_undo 36 = .ok (.invokevirtual 119, 3) := dk_182 0 119 (dk_at dksX1_undo_1 13 rfl rfl)
theorem dX1_undo_39 : decode cX1_undo 39 = .ok (.ireturn, 1) := dk_172 (dk_at dksX1_undo_1 16 rfl rfl)
abbrev cX1_save : ByteArray := prog_1_method_85_code
def yX1_save : MethodName := ⟨RX1, "save", "(I)I"⟩
def dkwX1_save_0 : List UInt8 := [42, 182, 0, 72, 77, 27, 5, 184, 0, 79, 42, 180, 0, 40, 27, 44, 83, 44, 180, 0, 161, 172]
abbrev dktX1_save_0 : List UInt8 := dkwX1_save_0 ++ []
theorem dksX1_save_0 : cX1_save.data.toList.drop 0 = dktX1_save_0 := by decide +kernel
theorem dX1_save_0 : decode cX1_save 0 = .ok (.aload_n 0, 1) := dk_42 (dk_at dksX1_save_0 0 rfl rfl)
theorem dX1_save_1 : decode cX1_save 1 = .ok (.invokevirtual 72, 3) := dk_182 0 72 (dk_at dksX1_save_0 1 rfl rfl)
theorem dX1_save_4 : decode cX1_save 4 = .ok (.astore_n 2, 1) := dk_77 (dk_at dksX1_save_0 4 rfl rfl)
theorem dX1_save_5 : decode cX1_save 5 = .ok (.iload_n 1, 1) := dk_27 (dk_at dksX1_save_0 5 rfl rfl)
theorem dX1_save_6 : decode cX1_save 6 = .ok (.iconst 2, 1) := dk_5 (dk_at dksX1_save_0 6 rfl rfl)
theorem dX1_save_7 : decode cX1_save 7 = .ok (.invokestatic 79, 3) := dk_184 0 79 (dk_at dksX1_save_0 7 rfl rfl)
theorem dX1_save_10 : decode cX1_save 10 = .ok (.aload_n 0, 1) := dk_42 (dk_at dksX1_save_0 10 rfl rfl)
theorem dX1_save_11 : decode cX1_save 11 = .ok (.getfield 40, 3) := dk_180 0 40 (dk_at dksX1_save_0 11 rfl rfl)
theorem dX1_save_14 : decode cX1_save 14 = .ok (.iload_n 1, 1) := dk_27 (dk_at dksX1_save_0 14 rfl rfl)
theorem dX1_save_15 : decode cX1_save 15 = .ok (.aload_n 2, 1) := dk_44 (dk_at dksX1_save_0 15 rfl rfl)
theorem dX1_save_16 : decode cX1_save 16 = .ok (.aastore, 1) := dk_83 (dk_at dksX1_save_0 16 rfl rfl)
theorem dX1_save_17 : decode cX1_save 17 = .ok (.aload_n 2, 1) := dk_44 (dk_at dksX1_save_0 17 rfl rfl)
theorem dX1_save_18 : decode cX1_save 18 = .ok (.getfield 161, 3) := dk_180 0 161 (dk_at dksX1_save_0 18 rfl rfl)
theorem dX1_save_21 : decode cX1_save 21 = .ok (.ireturn, 1) := dk_172 (dk_at dksX1_save_0 21 rfl rfl)
abbrev cX1_restore : ByteArray := prog_1_method_86_code
def yX1_restore : MethodName := ⟨RX1, "restore", "(I)I"⟩
def dkwX1_restore_1 : List UInt8 := [180, 0, 40, 27, 50, 181, 0, 64, 42, 180, 0, 34, 182, 0, 145, 42, 180, 0, 64, 180, 0, 161, 172]
abbrev dktX1_restore_1 : List UInt8 := dkwX1_restore_1 ++ []
def dkwX1_restore_0 : List UInt8 := [27, 5, 184, 0, 79, 42, 180, 0, 40, 27, 50, 198, 0, 7, 4, 167, 0, 4, 3, 184, 0, 68, 42, 42]
abbrev dktX1_restore_0 : List UInt8 := dkwX1_restore_0 ++ dktX1_restore_1
theorem dksX1_restore_0 : cX1_restore.data.toList.drop 0 = dktX1_restore_0 := by decide +kernel
theorem dksX1_restore_1 : cX1_restore.data.toList.drop 24 = dktX1_restore_1 := dk_seg dksX1_restore_0 24 rfl rfl
theorem dX1_restore_0 : decode cX1_restore 0 = .ok (.iload_n 1, 1) := dk_27 (dk_at dksX1_restore_0 0 rfl rfl)
theorem dX1_restore_1 : decode cX1_restore 1 = .ok (.iconst 2, 1) := dk_5 (dk_at dksX1_restore_0 1 rfl rfl)
theorem dX1_restore_2 : decode cX1_restore 2 = .ok (.invokestatic 79, 3) := dk_184 0 79 (dk_at dksX1_restore_0 2 rfl rfl)
theorem dX1_restore_5 : decode cX1_restore 5 = .ok (.aload_n 0, 1) := dk_42 (dk_at dksX1_restore_0 5 rfl rfl)
theorem dX1_restore_6 : decode cX1_restore 6 = .ok (.getfield 40, 3) := dk_180 0 40 (dk_at dksX1_restore_0 6 rfl rfl)
theorem dX1_restore_9 : decode cX1_restore 9 = .ok (.iload_n 1, 1) := dk_27 (dk_at dksX1_restore_0 9 rfl rfl)
theorem dX1_restore_10 : decode cX1_restore 10 = .ok (.aaload, 1) := dk_50 (dk_at dksX1_restore_0 10 rfl rfl)
theorem dX1_restore_11 : decode cX1_restore 11 = .ok (.ifnull 7, 3) := dk_198 0 7 (dk_at dksX1_restore_0 11 rfl rfl)
theorem dX1_restore_14 : decode cX1_restore 14 = .ok (.iconst 1, 1) := dk_4 (dk_at dksX1_restore_0 14 rfl rfl)
theorem dX1_restore_15 : decode cX1_restore 15 = .ok (.goto 4, 3) := dk_167 0 4 (dk_at dksX1_restore_0 15 rfl rfl)
theorem dX1_restore_18 : decode cX1_restore 18 = .ok (.iconst 0, 1) := dk_3 (dk_at dksX1_restore_0 18 rfl rfl)
theorem dX1_restore_19 : decode cX1_restore 19 = .ok (.invokestatic 68, 3) := dk_184 0 68 (dk_at dksX1_restore_0 19 rfl rfl)
theorem dX1_restore_22 : decode cX1_restore 22 = .ok (.aload_n 0, 1) := dk_42 (dk_at dksX1_restore_0 22 rfl rfl)
theorem dX1_restore_23 : decode cX1_restore 23 = .ok (.aload_n 0, 1) := dk_42 (dk_at dksX1_restore_0 23 rfl rfl)
theorem dX1_restore_24 : decode cX1_restore 24 = .ok (.getfield 40, 3) := dk_180 0 40 (dk_at dksX1_restore_1 0 rfl rfl)
theorem dX1_restore_27 : decode cX1_restore 27 = .ok (.iload_n 1, 1) := dk_27 (dk_at dksX1_restore_1 3 rfl rfl)
theorem dX1_restore_28 : decode cX1_restore 28 = .ok (.aaload, 1) := dk_50 (dk_at dksX1_restore_1 4 rfl rfl)
theorem dX1_restore_29 : decode cX1_restore 29 = .ok (.putfield 64, 3) := dk_181 0 64 (dk_at dksX1_restore_1 5 rfl rfl)
theorem dX1_restore_32 : decode cX1_restore 32 = .ok (.aload_n 0, 1) := dk_42 (dk_at dksX1_restore_1 8 rfl rfl)
theorem dX1_restore_33 : decode cX1_restore 33 = .ok (.getfield 34, 3) := dk_180 0 34 (dk_at dksX1_restore_1 9 rfl rfl)
theorem dX1_restore_36 : decode cX1_restore 36 = .ok (.invokevirtual 145, 3) := dk_182 0 145 (dk_at dksX1_restore_1 12 rfl rfl)
theorem dX1_restore_39 : decode cX1_restore 39 = .ok (.aload_n 0, 1) := dk_42 (dk_at dksX1_restore_1 15 rfl rfl)
theorem dX1_restore_40 : decode cX1_restore 40 = .ok (.getfield 64, 3) := dk_180 0 64 (dk_at dksX1_restore_1 16 rfl rfl)
theorem dX1_restore_43 : decode cX1_restore 43 = .ok (.getfield 161, 3) := dk_180 0 161 (dk_at dksX1_restore_1 19 rfl rfl)
theorem dX1_restore_46 : decode cX1_restore 46 = .ok (.ireturn, 1) := dk_172 (dk_at dksX1_restore_1 22 rfl rfl)
theorem q133 : (Jvm.Cond.initialized "VotingHuts") ∈ lw_all := lw_g (lw_at lw_m1 1 rfl) rfl
theorem q171 : (Jvm.Cond.instantiable "VotingHuts" (8 : Nat)) ∈ lw_all := lw_g (lw_at lw_m1 39 rfl) rfl
theorem q173 : (Jvm.Cond.instanceMethod ({ cls := "VotingHuts", name := "<init>", desc := "()V" } : Jvm.MethodName)) ∈ lw_all := lw_g (lw_at lw_m1 41 rfl) rfl
theorem q174 : (Jvm.Cond.code ({ cls := "VotingHuts", name := "<init>", desc := "()V" } : Jvm.MethodName) prog_1_method_7_code (1 : Nat) (Option.none : Option Jvm.ClassFile.FieldType)) ∈ lw_all := lw_g (lw_at lw_m1 42 rfl) rfl
theorem q175 : (Jvm.Cond.methodLink "VotingHuts" (17 : Nat) ({ cls := "java/lang/Object", name := "<init>", desc := "()V" } : Jvm.MethodName)) ∈ lw_all := lw_g (lw_at lw_m1 43 rfl) rfl
theorem q178 : (Jvm.Cond.classLink "VotingHuts" (31 : Nat) "java/util/ArrayDeque") ∈ lw_all := lw_g (lw_at lw_m1 46 rfl) rfl
theorem q180 : (Jvm.Cond.methodLink "VotingHuts" (33 : Nat) ({ cls := "java/util/ArrayDeque", name := "<init>", desc := "()V" } : Jvm.MethodName)) ∈ lw_all := lw_g (lw_at lw_m1 48 rfl) rfl
theorem q200 : (Jvm.Cond.classLink "VotingHuts" (38 : Nat) "VotingHuts$World") ∈ lw_all := lw_g (lw_at lw_m1 68 rfl) rfl
theorem q202 : (Jvm.Cond.classLink "VotingHuts" (44 : Nat) "java/lang/StringBuilder") ∈ lw_all := lw_g (lw_at lw_m1 70 rfl) rfl
theorem q204 : (Jvm.Cond.methodLink "VotingHuts" (46 : Nat) ({ cls := "java/lang/StringBuilder", name := "<init>", desc := "()V" } : Jvm.MethodName)) ∈ lw_all := lw_g (lw_at lw_m1 72 rfl) rfl
theorem q235 : (Jvm.Cond.fieldLink "VotingHuts" (23 : Nat) "VotingHuts" "buffer" "[B") ∈ lw_all := lw_g (lw_at lw_m1 103 rfl) rfl
theorem q236 : (Jvm.Cond.fieldLink "VotingHuts" (131 : Nat) "VotingHuts" "buffered" "I") ∈ lw_all := lw_g (lw_at lw_m1 104 rfl) rfl
theorem q237 : (Jvm.Cond.fieldLink "VotingHuts" (134 : Nat) "VotingHuts" "parseError" "I") ∈ lw_all := lw_g (lw_at lw_m1 105 rfl) rfl
theorem q238 : (Jvm.Cond.fieldLink "VotingHuts" (27 : Nat) "VotingHuts" "errorPosition" "I") ∈ lw_all := lw_g (lw_at lw_m1 106 rfl) rfl
theorem q239 : (Jvm.Cond.fieldLink "VotingHuts" (64 : Nat) "VotingHuts" "now" "LVotingHuts$World;") ∈ lw_all := lw_g (lw_at lw_m1 107 rfl) rfl
theorem q240 : (Jvm.Cond.fieldLink "VotingHuts" (34 : Nat) "VotingHuts" "past" "Ljava/util/ArrayDeque;") ∈ lw_all := lw_g (lw_at lw_m1 108 rfl) rfl
theorem q241 : (Jvm.Cond.fieldLink "VotingHuts" (40 : Nat) "VotingHuts" "saved" "[LVotingHuts$World;") ∈ lw_all := lw_g (lw_at lw_m1 109 rfl) rfl
theorem q242 : (Jvm.Cond.fieldLink "VotingHuts" (47 : Nat) "VotingHuts" "output" "Ljava/lang/StringBuilder;") ∈ lw_all := lw_g (lw_at lw_m1 110 rfl) rfl
theorem q243 : (Jvm.Cond.laysFinal "VotingHuts" "VotingHuts" "buffer" "[B") ∈ lw_all := lw_g (lw_at lw_m1 111 rfl) rfl
theorem q244 : (Jvm.Cond.soleField "VotingHuts" "buffer") ∈ lw_all := lw_g (lw_at lw_m1 112 rfl) rfl
theorem q245 : (Jvm.Cond.lays "VotingHuts" "VotingHuts" "buffered" "I") ∈ lw_all := lw_g (lw_at lw_m1 113 rfl) rfl
theorem q246 : (Jvm.Cond.soleField "VotingHuts" "buffered") ∈ lw_all := lw_g (lw_at lw_m1 114 rfl) rfl
theorem q247 : (Jvm.Cond.lays "VotingHuts" "VotingHuts" "parseError" "I") ∈ lw_all := lw_g (lw_at lw_m1 115 rfl) rfl
theorem q248 : (Jvm.Cond.soleField "VotingHuts" "parseError") ∈ lw_all := lw_g (lw_at lw_m1 116 rfl) rfl
theorem q249 : (Jvm.Cond.lays "VotingHuts" "VotingHuts" "errorPosition" "I") ∈ lw_all := lw_g (lw_at lw_m1 117 rfl) rfl
theorem q250 : (Jvm.Cond.soleField "VotingHuts" "errorPosition") ∈ lw_all := lw_g (lw_at lw_m1 118 rfl) rfl
theorem q251 : (Jvm.Cond.lays "VotingHuts" "VotingHuts" "now" "LVotingHuts$World;") ∈ lw_all := lw_g (lw_at lw_m1 119 rfl) rfl
theorem q252 : (Jvm.Cond.soleField "VotingHuts" "now") ∈ lw_all := lw_g (lw_at lw_m1 120 rfl) rfl
theorem q253 : (Jvm.Cond.laysFinal "VotingHuts" "VotingHuts" "past" "Ljava/util/ArrayDeque;") ∈ lw_all := lw_g (lw_at lw_m1 121 rfl) rfl
theorem q254 : (Jvm.Cond.soleField "VotingHuts" "past") ∈ lw_all := lw_g (lw_at lw_m1 122 rfl) rfl
theorem q255 : (Jvm.Cond.laysFinal "VotingHuts" "VotingHuts" "saved" "[LVotingHuts$World;") ∈ lw_all := lw_g (lw_at lw_m1 123 rfl) rfl
theorem q256 : (Jvm.Cond.soleField "VotingHuts" "saved") ∈ lw_all := lw_g (lw_at lw_m1 124 rfl) rfl
theorem q257 : (Jvm.Cond.laysFinal "VotingHuts" "VotingHuts" "output" "Ljava/lang/StringBuilder;") ∈ lw_all := lw_g (lw_at lw_m1 125 rfl) rfl
theorem q258 : (Jvm.Cond.soleField "VotingHuts" "output") ∈ lw_all := lw_g (lw_at lw_m1 126 rfl) rfl
theorem q259 : (Jvm.Cond.superclass "VotingHuts" "java/lang/Object") ∈ lw_all := lw_g (lw_at lw_m1 127 rfl) rfl
theorem q261 : (Jvm.Cond.instanceMethod ({ cls := "VotingHuts", name := "append", desc := "(IIIII)I" } : Jvm.MethodName)) ∈ lw_all := lw_g (lw_at lw_m1 129 rfl) rfl
theorem q262 : (Jvm.Cond.selects "VotingHuts" ({ cls := "VotingHuts", name := "append", desc := "(IIIII)I" } : Jvm.MethodName) ({ cls := "VotingHuts", name := "append", desc := "(IIIII)I" } : Jvm.MethodName)) ∈ lw_all := lw_g (lw_at lw_m1 130 rfl) rfl
theorem q263 : (Jvm.Cond.code ({ cls := "VotingHuts", name := "append", desc := "(IIIII)I" } : Jvm.MethodName) prog_1_method_21_code (11 : Nat) (Option.some Jvm.ClassFile.FieldType.int)) ∈ lw_all := lw_g (lw_at lw_m1 131 rfl) rfl
theorem q266 : (Jvm.Cond.instanceMethod ({ cls := "VotingHuts", name := "parseError", desc := "()I" } : Jvm.MethodName)) ∈ lw_all := lw_g (lw_at lw_m1 134 rfl) rfl
theorem q267 : (Jvm.Cond.selects "VotingHuts" ({ cls := "VotingHuts", name := "parseError", desc := "()I" } : Jvm.MethodName) ({ cls := "VotingHuts", name := "parseError", desc := "()I" } : Jvm.MethodName)) ∈ lw_all := lw_g (lw_at lw_m1 135 rfl) rfl
theorem q268 : (Jvm.Cond.code ({ cls := "VotingHuts", name := "parseError", desc := "()I" } : Jvm.MethodName) prog_1_method_23_code (1 : Nat) (Option.some Jvm.ClassFile.FieldType.int)) ∈ lw_all := lw_g (lw_at lw_m1 136 rfl) rfl
theorem q270 : (Jvm.Cond.instanceMethod ({ cls := "VotingHuts", name := "errorPosition", desc := "()I" } : Jvm.MethodName)) ∈ lw_all := lw_g (lw_at lw_m1 138 rfl) rfl
theorem q271 : (Jvm.Cond.selects "VotingHuts" ({ cls := "VotingHuts", name := "errorPosition", desc := "()I" } : Jvm.MethodName) ({ cls := "VotingHuts", name := "errorPosition", desc := "()I" } : Jvm.MethodName)) ∈ lw_all := lw_g (lw_at lw_m1 139 rfl) rfl
theorem q272 : (Jvm.Cond.code ({ cls := "VotingHuts", name := "errorPosition", desc := "()I" } : Jvm.MethodName) prog_1_method_24_code (1 : Nat) (Option.some Jvm.ClassFile.FieldType.int)) ∈ lw_all := lw_g (lw_at lw_m1 140 rfl) rfl
theorem q274 : (Jvm.Cond.instanceMethod ({ cls := "VotingHuts", name := "buffered", desc := "()I" } : Jvm.MethodName)) ∈ lw_all := lw_g (lw_at lw_m1 142 rfl) rfl
theorem q275 : (Jvm.Cond.selects "VotingHuts" ({ cls := "VotingHuts", name := "buffered", desc := "()I" } : Jvm.MethodName) ({ cls := "VotingHuts", name := "buffered", desc := "()I" } : Jvm.MethodName)) ∈ lw_all := lw_g (lw_at lw_m1 143 rfl) rfl
theorem q276 : (Jvm.Cond.code ({ cls := "VotingHuts", name := "buffered", desc := "()I" } : Jvm.MethodName) prog_1_method_25_code (1 : Nat) (Option.some Jvm.ClassFile.FieldType.int)) ∈ lw_all := lw_g (lw_at lw_m1 144 rfl) rfl
theorem q278 : (Jvm.Cond.instanceMethod ({ cls := "VotingHuts", name := "undoable", desc := "()I" } : Jvm.MethodName)) ∈ lw_all := lw_g (lw_at lw_m1 146 rfl) rfl
theorem q279 : (Jvm.Cond.selects "VotingHuts" ({ cls := "VotingHuts", name := "undoable", desc := "()I" } : Jvm.MethodName) ({ cls := "VotingHuts", name := "undoable", desc := "()I" } : Jvm.MethodName)) ∈ lw_all := lw_g (lw_at lw_m1 147 rfl) rfl
theorem q280 : (Jvm.Cond.code ({ cls := "VotingHuts", name := "undoable", desc := "()I" } : Jvm.MethodName) prog_1_method_84_code (1 : Nat) (Option.some Jvm.ClassFile.FieldType.int)) ∈ lw_all := lw_g (lw_at lw_m1 148 rfl) rfl
theorem q281 : (Jvm.Cond.methodLink "VotingHuts" (119 : Nat) ({ cls := "java/util/ArrayDeque", name := "size", desc := "()I" } : Jvm.MethodName)) ∈ lw_all := lw_g (lw_at lw_m1 149 rfl) rfl
theorem q371 : (Jvm.Cond.instanceMethod ({ cls := "VotingHuts", name := "load", desc := "(I)I" } : Jvm.MethodName)) ∈ lw_all := lw_g (lw_at lw_m1 239 rfl) rfl
theorem q372 : (Jvm.Cond.selects "VotingHuts" ({ cls := "VotingHuts", name := "load", desc := "(I)I" } : Jvm.MethodName) ({ cls := "VotingHuts", name := "load", desc := "(I)I" } : Jvm.MethodName)) ∈ lw_all := lw_g (lw_at lw_m2 0 rfl) rfl
theorem q373 : (Jvm.Cond.codeWith ({ cls := "VotingHuts", name := "load", desc := "(I)I" } : Jvm.MethodName) prog_1_method_22_code (4 : Nat) (Option.some Jvm.ClassFile.FieldType.int) [((20 : Nat), (76 : Nat), (83 : Nat), (148 : Nat)), ((20 : Nat), (76 : Nat), (108 : Nat), (0 : Nat)), ((83 : Nat), (109 : Nat), (108 : Nat), (0 : Nat))]) ∈ lw_all := lw_g (lw_at lw_m2 1 rfl) rfl
theorem q374 : (Jvm.Cond.classLink "VotingHuts" (148 : Nat) "VotingHuts$Flaw") ∈ lw_all := lw_g (lw_at lw_m2 2 rfl) rfl
theorem q375 : (Jvm.Cond.methodLink "VotingHuts" (79 : Nat) ({ cls := "VotingHuts", name := "checkIndex", desc := "(II)V" } : Jvm.MethodName)) ∈ lw_all := lw_g (lw_at lw_m2 3 rfl) rfl
theorem q376 : (Jvm.Cond.static ({ cls := "VotingHuts", name := "checkIndex", desc := "(II)V" } : Jvm.MethodName)) ∈ lw_all := lw_g (lw_at lw_m2 4 rfl) rfl
theorem q377 : (Jvm.Cond.code ({ cls := "VotingHuts", name := "checkIndex", desc := "(II)V" } : Jvm.MethodName) prog_1_method_9_code (2 : Nat) (Option.none : Option Jvm.ClassFile.FieldType)) ∈ lw_all := lw_g (lw_at lw_m2 5 rfl) rfl
theorem q378 : (Jvm.Cond.methodLink "VotingHuts" (54 : Nat) ({ cls := "VotingHuts", name := "in", desc := "(JJJ)Z" } : Jvm.MethodName)) ∈ lw_all := lw_g (lw_at lw_m2 6 rfl) rfl
theorem q379 : (Jvm.Cond.static ({ cls := "VotingHuts", name := "in", desc := "(JJJ)Z" } : Jvm.MethodName)) ∈ lw_all := lw_g (lw_at lw_m2 7 rfl) rfl
theorem q380 : (Jvm.Cond.code ({ cls := "VotingHuts", name := "in", desc := "(JJJ)Z" } : Jvm.MethodName) prog_1_method_1_code (6 : Nat) (Option.some Jvm.ClassFile.FieldType.boolean)) ∈ lw_all := lw_g (lw_at lw_m2 8 rfl) rfl
theorem q381 : (Jvm.Cond.classLink "VotingHuts" (58 : Nat) "java/lang/IndexOutOfBoundsException") ∈ lw_all := lw_g (lw_at lw_m2 9 rfl) rfl
theorem q390 : (Jvm.Cond.methodLink "VotingHuts" (60 : Nat) ({ cls := "java/lang/IndexOutOfBoundsException", name := "<init>", desc := "()V" } : Jvm.MethodName)) ∈ lw_all := lw_g (lw_at lw_m2 18 rfl) rfl
theorem q402 : (Jvm.Cond.classLink "VotingHuts" (137 : Nat) "VotingHuts$Parser") ∈ lw_all := lw_g (lw_at lw_m2 30 rfl) rfl
theorem q404 : (Jvm.Cond.methodLink "VotingHuts" (139 : Nat) ({ cls := "VotingHuts$Parser", name := "<init>", desc := "(LVotingHuts;I)V" } : Jvm.MethodName)) ∈ lw_all := lw_g (lw_at lw_m2 32 rfl) rfl
theorem q703 : (Jvm.Cond.methodLink "VotingHuts" (142 : Nat) ({ cls := "VotingHuts$Parser", name := "parse", desc := "()LVotingHuts$World;" } : Jvm.MethodName)) ∈ lw_all := lw_g (lw_at lw_m3 91 rfl) rfl
theorem q739 : (Jvm.Cond.fieldLinkNest "VotingHuts" (150 : Nat) "VotingHuts$Flaw" "code" "I" "VotingHuts") ∈ lw_tbl := lw_at lw_m3 127 rfl
theorem q741 : (Jvm.Cond.fieldLinkNest "VotingHuts" (153 : Nat) "VotingHuts$Flaw" "position" "I" "VotingHuts") ∈ lw_tbl := lw_at lw_m3 129 rfl
theorem q805 : (Jvm.Cond.fieldLinkNest "VotingHuts" (186 : Nat) "VotingHuts$Wires" "storm" "[I" "VotingHuts") ∈ lw_tbl := lw_at lw_m3 193 rfl
theorem q808 : (Jvm.Cond.fieldLinkNest "VotingHuts" (190 : Nat) "VotingHuts$Wires" "phase" "[I" "VotingHuts") ∈ lw_tbl := lw_at lw_m3 196 rfl
theorem q810 : (Jvm.Cond.fieldLinkNest "VotingHuts" (200 : Nat) "VotingHuts$Wires" "sent" "[I" "VotingHuts") ∈ lw_tbl := lw_at lw_m3 198 rfl
theorem q812 : (Jvm.Cond.fieldLinkNest "VotingHuts" (203 : Nat) "VotingHuts$Wires" "garbled" "[I" "VotingHuts") ∈ lw_tbl := lw_at lw_m3 200 rfl
theorem q815 : (Jvm.Cond.fieldLinkNest "VotingHuts" (193 : Nat) "VotingHuts$Wires" "isCut" "[Z" "VotingHuts") ∈ lw_tbl := lw_at lw_m3 203 rfl
theorem q817 : (Jvm.Cond.fieldLinkNest "VotingHuts" (167 : Nat) "VotingHuts$Wires" "copies" "I" "VotingHuts") ∈ lw_tbl := lw_at lw_m3 205 rfl
theorem q819 : (Jvm.Cond.fieldLinkNest "VotingHuts" (170 : Nat) "VotingHuts$Wires" "wrong" "I" "VotingHuts") ∈ lw_tbl := lw_at lw_m3 207 rfl
theorem q821 : (Jvm.Cond.fieldLinkNest "VotingHuts" (173 : Nat) "VotingHuts$Wires" "missed" "I" "VotingHuts") ∈ lw_tbl := lw_at lw_m3 209 rfl
theorem q853 : (Jvm.Cond.fieldLinkNest "VotingHuts" (294 : Nat) "VotingHuts$Kept" "all" "Ljava/util/List;" "VotingHuts") ∈ lw_tbl := lw_at lw_m4 1 rfl
theorem q862 : (Jvm.Cond.fieldLinkNest "VotingHuts" (76 : Nat) "VotingHuts$World" "levels" "I" "VotingHuts") ∈ lw_tbl := lw_at lw_m4 10 rfl
theorem q865 : (Jvm.Cond.fieldLinkNest "VotingHuts" (87 : Nat) "VotingHuts$World" "wires" "LVotingHuts$Wires;" "VotingHuts") ∈ lw_tbl := lw_at lw_m4 13 rfl
theorem q868 : (Jvm.Cond.fieldLinkNest "VotingHuts" (94 : Nat) "VotingHuts$World" "messages" "Ljava/util/List;" "VotingHuts") ∈ lw_tbl := lw_at lw_m4 16 rfl
theorem q870 : (Jvm.Cond.fieldLinkNest "VotingHuts" (290 : Nat) "VotingHuts$World" "log" "LVotingHuts$Kept;" "VotingHuts") ∈ lw_tbl := lw_at lw_m4 18 rfl
theorem q873 : (Jvm.Cond.fieldLinkNest "VotingHuts" (158 : Nat) "VotingHuts$World" "asks" "I" "VotingHuts") ∈ lw_tbl := lw_at lw_m4 21 rfl
theorem q875 : (Jvm.Cond.fieldLinkNest "VotingHuts" (161 : Nat) "VotingHuts$World" "hour" "I" "VotingHuts") ∈ lw_tbl := lw_at lw_m4 23 rfl
theorem q877 : (Jvm.Cond.fieldLinkNest "VotingHuts" (176 : Nat) "VotingHuts$World" "asked" "I" "VotingHuts") ∈ lw_tbl := lw_at lw_m4 25 rfl
theorem q976 : (Jvm.Cond.static ({ cls := "VotingHuts", name := "wireOf", desc := "(III)I" } : Jvm.MethodName)) ∈ lw_all := lw_g (lw_at lw_m4 124 rfl) rfl
theorem q977 : (Jvm.Cond.code ({ cls := "VotingHuts", name := "wireOf", desc := "(III)I" } : Jvm.MethodName) prog_1_method_6_code (3 : Nat) (Option.some Jvm.ClassFile.FieldType.int)) ∈ lw_all := lw_g (lw_at lw_m4 125 rfl) rfl
theorem q1012 : (Jvm.Cond.fieldLinkNest "VotingHuts" (245 : Nat) "VotingHuts$Message" "digits" "[I" "VotingHuts") ∈ lw_tbl := lw_at lw_m4 160 rfl
theorem q1014 : (Jvm.Cond.fieldLinkNest "VotingHuts" (252 : Nat) "VotingHuts$Message" "has" "[[I" "VotingHuts") ∈ lw_tbl := lw_at lw_m4 162 rfl
theorem q1018 : (Jvm.Cond.fieldLinkNest "VotingHuts" (234 : Nat) "VotingHuts$Message" "hourSent" "I" "VotingHuts") ∈ lw_tbl := lw_at lw_m4 166 rfl
theorem q1021 : (Jvm.Cond.fieldLinkNest "VotingHuts" (230 : Nat) "VotingHuts$Message" "level" "I" "VotingHuts") ∈ lw_tbl := lw_at lw_m4 169 rfl
theorem q1023 : (Jvm.Cond.fieldLinkNest "VotingHuts" (233 : Nat) "VotingHuts$Message" "asked" "I" "VotingHuts") ∈ lw_tbl := lw_at lw_m4 171 rfl
theorem q1027 : (Jvm.Cond.fieldLinkNest "VotingHuts" (237 : Nat) "VotingHuts$Message" "arrived" "I" "VotingHuts") ∈ lw_tbl := lw_at lw_m4 175 rfl
theorem q1074 : (Jvm.Cond.selects "VotingHuts" ({ cls := "java/lang/Object", name := "getClass", desc := "()Ljava/lang/Class;" } : Jvm.MethodName) ({ cls := "java/lang/Object", name := "getClass", desc := "()Ljava/lang/Class;" } : Jvm.MethodName)) ∈ lw_all := lw_g (lw_at lw_m4 222 rfl) rfl
theorem q1136 : (Jvm.Cond.fieldLinkNest "VotingHuts" (383 : Nat) "VotingHuts$Entry" "hour" "I" "VotingHuts") ∈ lw_tbl := lw_at lw_m5 44 rfl
theorem q1138 : (Jvm.Cond.fieldLinkNest "VotingHuts" (316 : Nat) "VotingHuts$Entry" "kind" "I" "VotingHuts") ∈ lw_tbl := lw_at lw_m5 46 rfl
theorem q1140 : (Jvm.Cond.fieldLinkNest "VotingHuts" (392 : Nat) "VotingHuts$Entry" "message" "I" "VotingHuts") ∈ lw_tbl := lw_at lw_m5 48 rfl
theorem q1183 : (Jvm.Cond.static ({ cls := "VotingHuts", name := "same", desc := "(II)[I" } : Jvm.MethodName)) ∈ lw_all := lw_g (lw_at lw_m5 91 rfl) rfl
theorem q1184 : (Jvm.Cond.code ({ cls := "VotingHuts", name := "same", desc := "(II)[I" } : Jvm.MethodName) prog_1_method_5_code (4 : Nat) (Option.some (Jvm.ClassFile.FieldType.array Jvm.ClassFile.FieldType.int))) ∈ lw_all := lw_g (lw_at lw_m5 92 rfl) rfl
theorem q1259 : (Jvm.Cond.static ({ cls := "VotingHuts", name := "flag", desc := "(Z)I" } : Jvm.MethodName)) ∈ lw_all := lw_g (lw_at lw_m5 167 rfl) rfl
theorem q1260 : (Jvm.Cond.code ({ cls := "VotingHuts", name := "flag", desc := "(Z)I" } : Jvm.MethodName) prog_1_method_2_code (1 : Nat) (Option.some Jvm.ClassFile.FieldType.int)) ∈ lw_all := lw_g (lw_at lw_m5 168 rfl) rfl
theorem q1317 : (Jvm.Cond.static ({ cls := "VotingHuts", name := "agreed", desc := "(III)I" } : Jvm.MethodName)) ∈ lw_all := lw_g (lw_at lw_m5 225 rfl) rfl
theorem q1318 : (Jvm.Cond.code ({ cls := "VotingHuts", name := "agreed", desc := "(III)I" } : Jvm.MethodName) prog_1_method_3_code (3 : Nat) (Option.some Jvm.ClassFile.FieldType.int)) ∈ lw_all := lw_g (lw_at lw_m5 226 rfl) rfl
theorem q1323 : (Jvm.Cond.methodLink "VotingHuts" (145 : Nat) ({ cls := "java/util/ArrayDeque", name := "clear", desc := "()V" } : Jvm.MethodName)) ∈ lw_all := lw_g (lw_at lw_m5 231 rfl) rfl
theorem q1330 : (Jvm.Cond.interfaceEntry "VotingHuts" (3 : Nat)) ∈ lw_tbl := lw_at lw_m5 238 rfl
theorem q1331 : (Jvm.Cond.methodLink "VotingHuts" (3 : Nat) ({ cls := "java/util/List", name := "size", desc := "()I" } : Jvm.MethodName)) ∈ lw_all := lw_g (lw_at lw_m5 239 rfl) rfl
theorem q1332 : (Jvm.Cond.classLink "VotingHuts" (51 : Nat) "java/lang/IllegalArgumentException") ∈ lw_all := lw_g (lw_at lw_m6 0 rfl) rfl
theorem q1333 : (Jvm.Cond.methodLink "VotingHuts" (53 : Nat) ({ cls := "java/lang/IllegalArgumentException", name := "<init>", desc := "()V" } : Jvm.MethodName)) ∈ lw_all := lw_g (lw_at lw_m6 1 rfl) rfl
theorem q1342 : (Jvm.Cond.instanceMethod ({ cls := "VotingHuts", name := "count", desc := "(I)I" } : Jvm.MethodName)) ∈ lw_all := lw_g (lw_at lw_m6 10 rfl) rfl
theorem q1343 : (Jvm.Cond.selects "VotingHuts" ({ cls := "VotingHuts", name := "count", desc := "(I)I" } : Jvm.MethodName) ({ cls := "VotingHuts", name := "count", desc := "(I)I" } : Jvm.MethodName)) ∈ lw_all := lw_g (lw_at lw_m6 11 rfl) rfl
theorem q1344 : (Jvm.Cond.code ({ cls := "VotingHuts", name := "count", desc := "(I)I" } : Jvm.MethodName) prog_1_method_26_code (3 : Nat) (Option.some Jvm.ClassFile.FieldType.int)) ∈ lw_all := lw_g (lw_at lw_m6 12 rfl) rfl
theorem q1345 : (Jvm.Cond.methodLink "VotingHuts" (72 : Nat) ({ cls := "VotingHuts", name := "loaded", desc := "()LVotingHuts$World;" } : Jvm.MethodName)) ∈ lw_all := lw_g (lw_at lw_m6 13 rfl) rfl
theorem q1346 : (Jvm.Cond.privateMethod ({ cls := "VotingHuts", name := "loaded", desc := "()LVotingHuts$World;" } : Jvm.MethodName)) ∈ lw_tbl := lw_at lw_m6 14 rfl
theorem q1347 : (Jvm.Cond.instanceMethod ({ cls := "VotingHuts", name := "loaded", desc := "()LVotingHuts$World;" } : Jvm.MethodName)) ∈ lw_all := lw_g (lw_at lw_m6 15 rfl) rfl
theorem q1348 : (Jvm.Cond.code ({ cls := "VotingHuts", name := "loaded", desc := "()LVotingHuts$World;" } : Jvm.MethodName) prog_1_method_11_code (1 : Nat) (Option.some (Jvm.ClassFile.FieldType.object "VotingHuts$World"))) ∈ lw_all := lw_g (lw_at lw_m6 16 rfl) rfl
theorem q1349 : (Jvm.Cond.methodLink "VotingHuts" (68 : Nat) ({ cls := "VotingHuts", name := "checkState", desc := "(Z)V" } : Jvm.MethodName)) ∈ lw_all := lw_g (lw_at lw_m6 17 rfl) rfl
theorem q1350 : (Jvm.Cond.static ({ cls := "VotingHuts", name := "checkState", desc := "(Z)V" } : Jvm.MethodName)) ∈ lw_all := lw_g (lw_at lw_m6 18 rfl) rfl
theorem q1351 : (Jvm.Cond.code ({ cls := "VotingHuts", name := "checkState", desc := "(Z)V" } : Jvm.MethodName) prog_1_method_10_code (1 : Nat) (Option.none : Option Jvm.ClassFile.FieldType)) ∈ lw_all := lw_g (lw_at lw_m6 19 rfl) rfl
theorem q1352 : (Jvm.Cond.classLink "VotingHuts" (61 : Nat) "java/lang/IllegalStateException") ∈ lw_all := lw_g (lw_at lw_m6 20 rfl) rfl
theorem q1361 : (Jvm.Cond.methodLink "VotingHuts" (63 : Nat) ({ cls := "java/lang/IllegalStateException", name := "<init>", desc := "()V" } : Jvm.MethodName)) ∈ lw_all := lw_g (lw_at lw_m6 29 rfl) rfl
theorem q1367 : (Jvm.Cond.constantLong "VotingHuts" (156 : Nat) (11 : Int64)) ∈ lw_all := lw_g (lw_at lw_m6 35 rfl) rfl
theorem q1368 : (Jvm.Cond.methodLink "VotingHuts" (116 : Nat) ({ cls := "VotingHuts", name := "checkArgument", desc := "(Z)V" } : Jvm.MethodName)) ∈ lw_all := lw_g (lw_at lw_m6 36 rfl) rfl
theorem q1369 : (Jvm.Cond.static ({ cls := "VotingHuts", name := "checkArgument", desc := "(Z)V" } : Jvm.MethodName)) ∈ lw_all := lw_g (lw_at lw_m6 37 rfl) rfl
theorem q1370 : (Jvm.Cond.code ({ cls := "VotingHuts", name := "checkArgument", desc := "(Z)V" } : Jvm.MethodName) prog_1_method_8_code (1 : Nat) (Option.none : Option Jvm.ClassFile.FieldType)) ∈ lw_all := lw_g (lw_at lw_m6 38 rfl) rfl
theorem q1371 : (Jvm.Cond.methodLink "VotingHuts" (164 : Nat) ({ cls := "VotingHuts$World", name := "arrived", desc := "()I" } : Jvm.MethodName)) ∈ lw_all := lw_g (lw_at lw_m6 39 rfl) rfl
theorem q1375 : (Jvm.Cond.methodLink "VotingHuts" (179 : Nat) ({ cls := "VotingHuts$Wires", name := "many", desc := "(Z)I" } : Jvm.MethodName)) ∈ lw_all := lw_g (lw_at lw_m6 43 rfl) rfl
theorem q1380 : (Jvm.Cond.instanceMethod ({ cls := "VotingHuts", name := "wire", desc := "(IIII)I" } : Jvm.MethodName)) ∈ lw_all := lw_g (lw_at lw_m6 48 rfl) rfl
theorem q1381 : (Jvm.Cond.selects "VotingHuts" ({ cls := "VotingHuts", name := "wire", desc := "(IIII)I" } : Jvm.MethodName) ({ cls := "VotingHuts", name := "wire", desc := "(IIII)I" } : Jvm.MethodName)) ∈ lw_all := lw_g (lw_at lw_m6 49 rfl) rfl
theorem q1382 : (Jvm.Cond.code ({ cls := "VotingHuts", name := "wire", desc := "(IIII)I" } : Jvm.MethodName) prog_1_method_27_code (7 : Nat) (Option.some Jvm.ClassFile.FieldType.int)) ∈ lw_all := lw_g (lw_at lw_m6 50 rfl) rfl
theorem q1383 : (Jvm.Cond.methodLink "VotingHuts" (183 : Nat) ({ cls := "VotingHuts", name := "checkWire", desc := "(III)I" } : Jvm.MethodName)) ∈ lw_all := lw_g (lw_at lw_m6 51 rfl) rfl
theorem q1384 : (Jvm.Cond.privateMethod ({ cls := "VotingHuts", name := "checkWire", desc := "(III)I" } : Jvm.MethodName)) ∈ lw_tbl := lw_at lw_m6 52 rfl
theorem q1385 : (Jvm.Cond.instanceMethod ({ cls := "VotingHuts", name := "checkWire", desc := "(III)I" } : Jvm.MethodName)) ∈ lw_all := lw_g (lw_at lw_m6 53 rfl) rfl
theorem q1386 : (Jvm.Cond.code ({ cls := "VotingHuts", name := "checkWire", desc := "(III)I" } : Jvm.MethodName) prog_1_method_12_code (5 : Nat) (Option.some Jvm.ClassFile.FieldType.int)) ∈ lw_all := lw_g (lw_at lw_m6 54 rfl) rfl
theorem q1387 : (Jvm.Cond.methodLink "VotingHuts" (83 : Nat) ({ cls := "VotingHuts", name := "wireOf", desc := "(III)I" } : Jvm.MethodName)) ∈ lw_all := lw_g (lw_at lw_m6 55 rfl) rfl
theorem q1388 : (Jvm.Cond.methodLink "VotingHuts" (197 : Nat) ({ cls := "VotingHuts", name := "flag", desc := "(Z)I" } : Jvm.MethodName)) ∈ lw_all := lw_g (lw_at lw_m6 56 rfl) rfl
theorem q1393 : (Jvm.Cond.instanceMethod ({ cls := "VotingHuts", name := "garbles", desc := "(IIIII)Z" } : Jvm.MethodName)) ∈ lw_all := lw_g (lw_at lw_m6 61 rfl) rfl
theorem q1394 : (Jvm.Cond.selects "VotingHuts" ({ cls := "VotingHuts", name := "garbles", desc := "(IIIII)Z" } : Jvm.MethodName) ({ cls := "VotingHuts", name := "garbles", desc := "(IIIII)Z" } : Jvm.MethodName)) ∈ lw_all := lw_g (lw_at lw_m6 62 rfl) rfl
theorem q1395 : (Jvm.Cond.code ({ cls := "VotingHuts", name := "garbles", desc := "(IIIII)Z" } : Jvm.MethodName) prog_1_method_28_code (7 : Nat) (Option.some Jvm.ClassFile.FieldType.boolean)) ∈ lw_all := lw_g (lw_at lw_m6 63 rfl) rfl
theorem q1396 : (Jvm.Cond.constantLong "VotingHuts" (206 : Nat) (9999 : Int64)) ∈ lw_all := lw_g (lw_at lw_m6 64 rfl) rfl
theorem q1397 : (Jvm.Cond.methodLink "VotingHuts" (208 : Nat) ({ cls := "VotingHuts$Wires", name := "garbles", desc := "(III)Z" } : Jvm.MethodName)) ∈ lw_all := lw_g (lw_at lw_m6 65 rfl) rfl
theorem q1402 : (Jvm.Cond.instanceMethod ({ cls := "VotingHuts", name := "comes", desc := "(IIIII)I" } : Jvm.MethodName)) ∈ lw_all := lw_g (lw_at lw_m6 70 rfl) rfl
theorem q1403 : (Jvm.Cond.selects "VotingHuts" ({ cls := "VotingHuts", name := "comes", desc := "(IIIII)I" } : Jvm.MethodName) ({ cls := "VotingHuts", name := "comes", desc := "(IIIII)I" } : Jvm.MethodName)) ∈ lw_all := lw_g (lw_at lw_m6 71 rfl) rfl
theorem q1404 : (Jvm.Cond.code ({ cls := "VotingHuts", name := "comes", desc := "(IIIII)I" } : Jvm.MethodName) prog_1_method_29_code (7 : Nat) (Option.some Jvm.ClassFile.FieldType.int)) ∈ lw_all := lw_g (lw_at lw_m6 72 rfl) rfl
theorem q1405 : (Jvm.Cond.constantLong "VotingHuts" (114 : Nat) (9 : Int64)) ∈ lw_all := lw_g (lw_at lw_m6 73 rfl) rfl
theorem q1406 : (Jvm.Cond.methodLink "VotingHuts" (212 : Nat) ({ cls := "VotingHuts$Wires", name := "comes", desc := "(IIII)I" } : Jvm.MethodName)) ∈ lw_all := lw_g (lw_at lw_m6 74 rfl) rfl
theorem q1411 : (Jvm.Cond.instanceMethod ({ cls := "VotingHuts", name := "worstWire", desc := "()I" } : Jvm.MethodName)) ∈ lw_all := lw_g (lw_at lw_m6 79 rfl) rfl
theorem q1412 : (Jvm.Cond.selects "VotingHuts" ({ cls := "VotingHuts", name := "worstWire", desc := "()I" } : Jvm.MethodName) ({ cls := "VotingHuts", name := "worstWire", desc := "()I" } : Jvm.MethodName)) ∈ lw_all := lw_g (lw_at lw_m6 80 rfl) rfl
theorem q1413 : (Jvm.Cond.code ({ cls := "VotingHuts", name := "worstWire", desc := "()I" } : Jvm.MethodName) prog_1_method_30_code (1 : Nat) (Option.some Jvm.ClassFile.FieldType.int)) ∈ lw_all := lw_g (lw_at lw_m6 81 rfl) rfl
theorem q1414 : (Jvm.Cond.methodLink "VotingHuts" (216 : Nat) ({ cls := "VotingHuts$Wires", name := "worst", desc := "()I" } : Jvm.MethodName)) ∈ lw_all := lw_g (lw_at lw_m6 82 rfl) rfl
theorem q1422 : (Jvm.Cond.instanceMethod ({ cls := "VotingHuts", name := "stormyWires", desc := "(II)I" } : Jvm.MethodName)) ∈ lw_all := lw_g (lw_at lw_m6 90 rfl) rfl
theorem q1423 : (Jvm.Cond.selects "VotingHuts" ({ cls := "VotingHuts", name := "stormyWires", desc := "(II)I" } : Jvm.MethodName) ({ cls := "VotingHuts", name := "stormyWires", desc := "(II)I" } : Jvm.MethodName)) ∈ lw_all := lw_g (lw_at lw_m6 91 rfl) rfl
theorem q1424 : (Jvm.Cond.code ({ cls := "VotingHuts", name := "stormyWires", desc := "(II)I" } : Jvm.MethodName) prog_1_method_31_code (4 : Nat) (Option.some Jvm.ClassFile.FieldType.int)) ∈ lw_all := lw_g (lw_at lw_m6 92 rfl) rfl
theorem q1425 : (Jvm.Cond.methodLink "VotingHuts" (219 : Nat) ({ cls := "VotingHuts$Wires", name := "garbling", desc := "(II)I" } : Jvm.MethodName)) ∈ lw_all := lw_g (lw_at lw_m6 93 rfl) rfl
theorem q1433 : (Jvm.Cond.instanceMethod ({ cls := "VotingHuts", name := "calmest", desc := "(I)I" } : Jvm.MethodName)) ∈ lw_all := lw_g (lw_at lw_m6 101 rfl) rfl
theorem q1434 : (Jvm.Cond.selects "VotingHuts" ({ cls := "VotingHuts", name := "calmest", desc := "(I)I" } : Jvm.MethodName) ({ cls := "VotingHuts", name := "calmest", desc := "(I)I" } : Jvm.MethodName)) ∈ lw_all := lw_g (lw_at lw_m6 102 rfl) rfl
theorem q1435 : (Jvm.Cond.code ({ cls := "VotingHuts", name := "calmest", desc := "(I)I" } : Jvm.MethodName) prog_1_method_32_code (7 : Nat) (Option.some Jvm.ClassFile.FieldType.int)) ∈ lw_all := lw_g (lw_at lw_m6 103 rfl) rfl
theorem q1436 : (Jvm.Cond.constantLong "VotingHuts" (223 : Nat) (100 : Int64)) ∈ lw_all := lw_g (lw_at lw_m6 104 rfl) rfl
theorem q1437 : (Jvm.Cond.methodLink "VotingHuts" (225 : Nat) ({ cls := "VotingHuts$Wires", name := "garbled", desc := "(I)I" } : Jvm.MethodName)) ∈ lw_all := lw_g (lw_at lw_m6 105 rfl) rfl
theorem q1446 : (Jvm.Cond.instanceMethod ({ cls := "VotingHuts", name := "stormyHours", desc := "(IIII)I" } : Jvm.MethodName)) ∈ lw_all := lw_g (lw_at lw_m6 114 rfl) rfl
theorem q1447 : (Jvm.Cond.selects "VotingHuts" ({ cls := "VotingHuts", name := "stormyHours", desc := "(IIII)I" } : Jvm.MethodName) ({ cls := "VotingHuts", name := "stormyHours", desc := "(IIII)I" } : Jvm.MethodName)) ∈ lw_all := lw_g (lw_at lw_m6 115 rfl) rfl
theorem q1448 : (Jvm.Cond.code ({ cls := "VotingHuts", name := "stormyHours", desc := "(IIII)I" } : Jvm.MethodName) prog_1_method_33_code (10 : Nat) (Option.some Jvm.ClassFile.FieldType.int)) ∈ lw_all := lw_g (lw_at lw_m6 116 rfl) rfl
theorem q1453 : (Jvm.Cond.instanceMethod ({ cls := "VotingHuts", name := "message", desc := "(II)I" } : Jvm.MethodName)) ∈ lw_all := lw_g (lw_at lw_m6 121 rfl) rfl
theorem q1454 : (Jvm.Cond.selects "VotingHuts" ({ cls := "VotingHuts", name := "message", desc := "(II)I" } : Jvm.MethodName) ({ cls := "VotingHuts", name := "message", desc := "(II)I" } : Jvm.MethodName)) ∈ lw_all := lw_g (lw_at lw_m6 122 rfl) rfl
theorem q1455 : (Jvm.Cond.code ({ cls := "VotingHuts", name := "message", desc := "(II)I" } : Jvm.MethodName) prog_1_method_34_code (5 : Nat) (Option.some Jvm.ClassFile.FieldType.int)) ∈ lw_all := lw_g (lw_at lw_m6 123 rfl) rfl
theorem q1456 : (Jvm.Cond.methodLink "VotingHuts" (102 : Nat) ({ cls := "VotingHuts", name := "checkMessage", desc := "(I)LVotingHuts$Message;" } : Jvm.MethodName)) ∈ lw_all := lw_g (lw_at lw_m6 124 rfl) rfl
theorem q1457 : (Jvm.Cond.privateMethod ({ cls := "VotingHuts", name := "checkMessage", desc := "(I)LVotingHuts$Message;" } : Jvm.MethodName)) ∈ lw_tbl := lw_at lw_m6 125 rfl
theorem q1458 : (Jvm.Cond.instanceMethod ({ cls := "VotingHuts", name := "checkMessage", desc := "(I)LVotingHuts$Message;" } : Jvm.MethodName)) ∈ lw_all := lw_g (lw_at lw_m6 126 rfl) rfl
theorem q1459 : (Jvm.Cond.code ({ cls := "VotingHuts", name := "checkMessage", desc := "(I)LVotingHuts$Message;" } : Jvm.MethodName) prog_1_method_14_code (3 : Nat) (Option.some (Jvm.ClassFile.FieldType.object "VotingHuts$Message"))) ∈ lw_all := lw_g (lw_at lw_m6 127 rfl) rfl
theorem q1460 : (Jvm.Cond.methodLink "VotingHuts" (98 : Nat) ({ cls := "VotingHuts$World", name := "message", desc := "(I)LVotingHuts$Message;" } : Jvm.MethodName)) ∈ lw_all := lw_g (lw_at lw_m6 128 rfl) rfl
theorem q1461 : (Jvm.Cond.methodLink "VotingHuts" (228 : Nat) ({ cls := "VotingHuts$Message", name := "wrong", desc := "(I)I" } : Jvm.MethodName)) ∈ lw_all := lw_g (lw_at lw_m6 129 rfl) rfl
theorem q1465 : (Jvm.Cond.methodLink "VotingHuts" (105 : Nat) ({ cls := "VotingHuts$Message", name := "length", desc := "()I" } : Jvm.MethodName)) ∈ lw_all := lw_g (lw_at lw_m6 133 rfl) rfl
theorem q1466 : (Jvm.Cond.methodLink "VotingHuts" (239 : Nat) ({ cls := "VotingHuts$Message", name := "unsure", desc := "()I" } : Jvm.MethodName)) ∈ lw_all := lw_g (lw_at lw_m6 134 rfl) rfl
theorem q1471 : (Jvm.Cond.instanceMethod ({ cls := "VotingHuts", name := "digit", desc := "(II)I" } : Jvm.MethodName)) ∈ lw_all := lw_g (lw_at lw_m6 139 rfl) rfl
theorem q1472 : (Jvm.Cond.selects "VotingHuts" ({ cls := "VotingHuts", name := "digit", desc := "(II)I" } : Jvm.MethodName) ({ cls := "VotingHuts", name := "digit", desc := "(II)I" } : Jvm.MethodName)) ∈ lw_all := lw_g (lw_at lw_m6 140 rfl) rfl
theorem q1473 : (Jvm.Cond.code ({ cls := "VotingHuts", name := "digit", desc := "(II)I" } : Jvm.MethodName) prog_1_method_35_code (3 : Nat) (Option.some Jvm.ClassFile.FieldType.int)) ∈ lw_all := lw_g (lw_at lw_m6 141 rfl) rfl
theorem q1474 : (Jvm.Cond.methodLink "VotingHuts" (242 : Nat) ({ cls := "VotingHuts", name := "checkPlace", desc := "(II)LVotingHuts$Message;" } : Jvm.MethodName)) ∈ lw_all := lw_g (lw_at lw_m6 142 rfl) rfl
theorem q1475 : (Jvm.Cond.privateMethod ({ cls := "VotingHuts", name := "checkPlace", desc := "(II)LVotingHuts$Message;" } : Jvm.MethodName)) ∈ lw_tbl := lw_at lw_m6 143 rfl
theorem q1476 : (Jvm.Cond.instanceMethod ({ cls := "VotingHuts", name := "checkPlace", desc := "(II)LVotingHuts$Message;" } : Jvm.MethodName)) ∈ lw_all := lw_g (lw_at lw_m6 144 rfl) rfl
theorem q1477 : (Jvm.Cond.code ({ cls := "VotingHuts", name := "checkPlace", desc := "(II)LVotingHuts$Message;" } : Jvm.MethodName) prog_1_method_16_code (4 : Nat) (Option.some (Jvm.ClassFile.FieldType.object "VotingHuts$Message"))) ∈ lw_all := lw_g (lw_at lw_m6 145 rfl) rfl
theorem q1482 : (Jvm.Cond.instanceMethod ({ cls := "VotingHuts", name := "has", desc := "(III)I" } : Jvm.MethodName)) ∈ lw_all := lw_g (lw_at lw_m6 150 rfl) rfl
theorem q1483 : (Jvm.Cond.selects "VotingHuts" ({ cls := "VotingHuts", name := "has", desc := "(III)I" } : Jvm.MethodName) ({ cls := "VotingHuts", name := "has", desc := "(III)I" } : Jvm.MethodName)) ∈ lw_all := lw_g (lw_at lw_m6 151 rfl) rfl
theorem q1484 : (Jvm.Cond.code ({ cls := "VotingHuts", name := "has", desc := "(III)I" } : Jvm.MethodName) prog_1_method_36_code (4 : Nat) (Option.some Jvm.ClassFile.FieldType.int)) ∈ lw_all := lw_g (lw_at lw_m6 152 rfl) rfl
theorem q1485 : (Jvm.Cond.methodLink "VotingHuts" (248 : Nat) ({ cls := "VotingHuts", name := "checkBoth", desc := "(III)LVotingHuts$Message;" } : Jvm.MethodName)) ∈ lw_all := lw_g (lw_at lw_m6 153 rfl) rfl
theorem q1486 : (Jvm.Cond.privateMethod ({ cls := "VotingHuts", name := "checkBoth", desc := "(III)LVotingHuts$Message;" } : Jvm.MethodName)) ∈ lw_tbl := lw_at lw_m6 154 rfl
theorem q1487 : (Jvm.Cond.instanceMethod ({ cls := "VotingHuts", name := "checkBoth", desc := "(III)LVotingHuts$Message;" } : Jvm.MethodName)) ∈ lw_all := lw_g (lw_at lw_m6 155 rfl) rfl
theorem q1488 : (Jvm.Cond.code ({ cls := "VotingHuts", name := "checkBoth", desc := "(III)LVotingHuts$Message;" } : Jvm.MethodName) prog_1_method_17_code (5 : Nat) (Option.some (Jvm.ClassFile.FieldType.object "VotingHuts$Message"))) ∈ lw_all := lw_g (lw_at lw_m6 156 rfl) rfl
theorem q1489 : (Jvm.Cond.methodLink "VotingHuts" (110 : Nat) ({ cls := "VotingHuts", name := "checkHut", desc := "(II)LVotingHuts$Message;" } : Jvm.MethodName)) ∈ lw_all := lw_g (lw_at lw_m6 157 rfl) rfl
theorem q1490 : (Jvm.Cond.privateMethod ({ cls := "VotingHuts", name := "checkHut", desc := "(II)LVotingHuts$Message;" } : Jvm.MethodName)) ∈ lw_tbl := lw_at lw_m6 158 rfl
theorem q1491 : (Jvm.Cond.instanceMethod ({ cls := "VotingHuts", name := "checkHut", desc := "(II)LVotingHuts$Message;" } : Jvm.MethodName)) ∈ lw_all := lw_g (lw_at lw_m6 159 rfl) rfl
theorem q1492 : (Jvm.Cond.code ({ cls := "VotingHuts", name := "checkHut", desc := "(II)LVotingHuts$Message;" } : Jvm.MethodName) prog_1_method_15_code (4 : Nat) (Option.some (Jvm.ClassFile.FieldType.object "VotingHuts$Message"))) ∈ lw_all := lw_g (lw_at lw_m6 160 rfl) rfl
theorem q1497 : (Jvm.Cond.instanceMethod ({ cls := "VotingHuts", name := "copy", desc := "(IIII)I" } : Jvm.MethodName)) ∈ lw_all := lw_g (lw_at lw_m6 165 rfl) rfl
theorem q1498 : (Jvm.Cond.selects "VotingHuts" ({ cls := "VotingHuts", name := "copy", desc := "(IIII)I" } : Jvm.MethodName) ({ cls := "VotingHuts", name := "copy", desc := "(IIII)I" } : Jvm.MethodName)) ∈ lw_all := lw_g (lw_at lw_m6 166 rfl) rfl
theorem q1499 : (Jvm.Cond.code ({ cls := "VotingHuts", name := "copy", desc := "(IIII)I" } : Jvm.MethodName) prog_1_method_37_code (6 : Nat) (Option.some Jvm.ClassFile.FieldType.int)) ∈ lw_all := lw_g (lw_at lw_m6 167 rfl) rfl
theorem q1500 : (Jvm.Cond.methodLink "VotingHuts" (256 : Nat) ({ cls := "VotingHuts$Message", name := "copy", desc := "(III)I" } : Jvm.MethodName)) ∈ lw_all := lw_g (lw_at lw_m6 168 rfl) rfl
theorem q1505 : (Jvm.Cond.instanceMethod ({ cls := "VotingHuts", name := "vote", desc := "(III)I" } : Jvm.MethodName)) ∈ lw_all := lw_g (lw_at lw_m6 173 rfl) rfl
theorem q1506 : (Jvm.Cond.selects "VotingHuts" ({ cls := "VotingHuts", name := "vote", desc := "(III)I" } : Jvm.MethodName) ({ cls := "VotingHuts", name := "vote", desc := "(III)I" } : Jvm.MethodName)) ∈ lw_all := lw_g (lw_at lw_m6 174 rfl) rfl
theorem q1507 : (Jvm.Cond.code ({ cls := "VotingHuts", name := "vote", desc := "(III)I" } : Jvm.MethodName) prog_1_method_38_code (4 : Nat) (Option.some Jvm.ClassFile.FieldType.int)) ∈ lw_all := lw_g (lw_at lw_m6 175 rfl) rfl
theorem q1508 : (Jvm.Cond.methodLink "VotingHuts" (259 : Nat) ({ cls := "VotingHuts$Message", name := "vote", desc := "(II)I" } : Jvm.MethodName)) ∈ lw_all := lw_g (lw_at lw_m6 176 rfl) rfl
theorem q1516 : (Jvm.Cond.instanceMethod ({ cls := "VotingHuts", name := "unsure", desc := "(II)I" } : Jvm.MethodName)) ∈ lw_all := lw_g (lw_at lw_m6 184 rfl) rfl
theorem q1517 : (Jvm.Cond.selects "VotingHuts" ({ cls := "VotingHuts", name := "unsure", desc := "(II)I" } : Jvm.MethodName) ({ cls := "VotingHuts", name := "unsure", desc := "(II)I" } : Jvm.MethodName)) ∈ lw_all := lw_g (lw_at lw_m6 185 rfl) rfl
theorem q1518 : (Jvm.Cond.code ({ cls := "VotingHuts", name := "unsure", desc := "(II)I" } : Jvm.MethodName) prog_1_method_39_code (3 : Nat) (Option.some Jvm.ClassFile.FieldType.int)) ∈ lw_all := lw_g (lw_at lw_m6 186 rfl) rfl
theorem q1519 : (Jvm.Cond.methodLink "VotingHuts" (262 : Nat) ({ cls := "VotingHuts$Message", name := "unsure", desc := "(I)I" } : Jvm.MethodName)) ∈ lw_all := lw_g (lw_at lw_m6 187 rfl) rfl
theorem q1524 : (Jvm.Cond.instanceMethod ({ cls := "VotingHuts", name := "wrong", desc := "(II)I" } : Jvm.MethodName)) ∈ lw_all := lw_g (lw_at lw_m6 192 rfl) rfl
theorem q1525 : (Jvm.Cond.selects "VotingHuts" ({ cls := "VotingHuts", name := "wrong", desc := "(II)I" } : Jvm.MethodName) ({ cls := "VotingHuts", name := "wrong", desc := "(II)I" } : Jvm.MethodName)) ∈ lw_all := lw_g (lw_at lw_m6 193 rfl) rfl
theorem q1526 : (Jvm.Cond.code ({ cls := "VotingHuts", name := "wrong", desc := "(II)I" } : Jvm.MethodName) prog_1_method_40_code (3 : Nat) (Option.some Jvm.ClassFile.FieldType.int)) ∈ lw_all := lw_g (lw_at lw_m6 194 rfl) rfl
theorem q1531 : (Jvm.Cond.instanceMethod ({ cls := "VotingHuts", name := "believed", desc := "(II)I" } : Jvm.MethodName)) ∈ lw_all := lw_g (lw_at lw_m6 199 rfl) rfl
theorem q1532 : (Jvm.Cond.selects "VotingHuts" ({ cls := "VotingHuts", name := "believed", desc := "(II)I" } : Jvm.MethodName) ({ cls := "VotingHuts", name := "believed", desc := "(II)I" } : Jvm.MethodName)) ∈ lw_all := lw_g (lw_at lw_m6 200 rfl) rfl
theorem q1533 : (Jvm.Cond.code ({ cls := "VotingHuts", name := "believed", desc := "(II)I" } : Jvm.MethodName) prog_1_method_41_code (3 : Nat) (Option.some Jvm.ClassFile.FieldType.int)) ∈ lw_all := lw_g (lw_at lw_m6 201 rfl) rfl
theorem q1534 : (Jvm.Cond.methodLink "VotingHuts" (264 : Nat) ({ cls := "VotingHuts$Message", name := "believed", desc := "(I)I" } : Jvm.MethodName)) ∈ lw_all := lw_g (lw_at lw_m6 202 rfl) rfl
theorem q1542 : (Jvm.Cond.instanceMethod ({ cls := "VotingHuts", name := "right", desc := "(I)I" } : Jvm.MethodName)) ∈ lw_all := lw_g (lw_at lw_m6 210 rfl) rfl
theorem q1543 : (Jvm.Cond.selects "VotingHuts" ({ cls := "VotingHuts", name := "right", desc := "(I)I" } : Jvm.MethodName) ({ cls := "VotingHuts", name := "right", desc := "(I)I" } : Jvm.MethodName)) ∈ lw_all := lw_g (lw_at lw_m6 211 rfl) rfl
theorem q1544 : (Jvm.Cond.code ({ cls := "VotingHuts", name := "right", desc := "(I)I" } : Jvm.MethodName) prog_1_method_42_code (2 : Nat) (Option.some Jvm.ClassFile.FieldType.int)) ∈ lw_all := lw_g (lw_at lw_m6 212 rfl) rfl
theorem q1545 : (Jvm.Cond.methodLink "VotingHuts" (267 : Nat) ({ cls := "VotingHuts$Message", name := "right", desc := "()I" } : Jvm.MethodName)) ∈ lw_all := lw_g (lw_at lw_m6 213 rfl) rfl
theorem q1554 : (Jvm.Cond.instanceMethod ({ cls := "VotingHuts", name := "liar", desc := "(I)I" } : Jvm.MethodName)) ∈ lw_all := lw_g (lw_at lw_m6 222 rfl) rfl
theorem q1555 : (Jvm.Cond.selects "VotingHuts" ({ cls := "VotingHuts", name := "liar", desc := "(I)I" } : Jvm.MethodName) ({ cls := "VotingHuts", name := "liar", desc := "(I)I" } : Jvm.MethodName)) ∈ lw_all := lw_g (lw_at lw_m6 223 rfl) rfl
theorem q1556 : (Jvm.Cond.code ({ cls := "VotingHuts", name := "liar", desc := "(I)I" } : Jvm.MethodName) prog_1_method_43_code (2 : Nat) (Option.some Jvm.ClassFile.FieldType.int)) ∈ lw_all := lw_g (lw_at lw_m6 224 rfl) rfl
theorem q1557 : (Jvm.Cond.methodLink "VotingHuts" (270 : Nat) ({ cls := "VotingHuts$Message", name := "liar", desc := "()I" } : Jvm.MethodName)) ∈ lw_all := lw_g (lw_at lw_m6 225 rfl) rfl
theorem q1565 : (Jvm.Cond.instanceMethod ({ cls := "VotingHuts", name := "firstWrong", desc := "(I)I" } : Jvm.MethodName)) ∈ lw_all := lw_g (lw_at lw_m6 233 rfl) rfl
theorem q1566 : (Jvm.Cond.selects "VotingHuts" ({ cls := "VotingHuts", name := "firstWrong", desc := "(I)I" } : Jvm.MethodName) ({ cls := "VotingHuts", name := "firstWrong", desc := "(I)I" } : Jvm.MethodName)) ∈ lw_all := lw_g (lw_at lw_m6 234 rfl) rfl
theorem q1567 : (Jvm.Cond.code ({ cls := "VotingHuts", name := "firstWrong", desc := "(I)I" } : Jvm.MethodName) prog_1_method_44_code (2 : Nat) (Option.some Jvm.ClassFile.FieldType.int)) ∈ lw_all := lw_g (lw_at lw_m6 235 rfl) rfl
theorem q1568 : (Jvm.Cond.methodLink "VotingHuts" (273 : Nat) ({ cls := "VotingHuts$Message", name := "firstWrong", desc := "()I" } : Jvm.MethodName)) ∈ lw_all := lw_g (lw_at lw_m6 236 rfl) rfl
theorem q1576 : (Jvm.Cond.instanceMethod ({ cls := "VotingHuts", name := "doubtful", desc := "(I)I" } : Jvm.MethodName)) ∈ lw_all := lw_g (lw_at lw_m7 4 rfl) rfl
theorem q1577 : (Jvm.Cond.selects "VotingHuts" ({ cls := "VotingHuts", name := "doubtful", desc := "(I)I" } : Jvm.MethodName) ({ cls := "VotingHuts", name := "doubtful", desc := "(I)I" } : Jvm.MethodName)) ∈ lw_all := lw_g (lw_at lw_m7 5 rfl) rfl
theorem q1578 : (Jvm.Cond.code ({ cls := "VotingHuts", name := "doubtful", desc := "(I)I" } : Jvm.MethodName) prog_1_method_45_code (2 : Nat) (Option.some Jvm.ClassFile.FieldType.int)) ∈ lw_all := lw_g (lw_at lw_m7 6 rfl) rfl
theorem q1579 : (Jvm.Cond.methodLink "VotingHuts" (276 : Nat) ({ cls := "VotingHuts$Message", name := "doubtful", desc := "()I" } : Jvm.MethodName)) ∈ lw_all := lw_g (lw_at lw_m7 7 rfl) rfl
theorem q1587 : (Jvm.Cond.instanceMethod ({ cls := "VotingHuts", name := "agreeing", desc := "(I)I" } : Jvm.MethodName)) ∈ lw_all := lw_g (lw_at lw_m7 15 rfl) rfl
theorem q1588 : (Jvm.Cond.selects "VotingHuts" ({ cls := "VotingHuts", name := "agreeing", desc := "(I)I" } : Jvm.MethodName) ({ cls := "VotingHuts", name := "agreeing", desc := "(I)I" } : Jvm.MethodName)) ∈ lw_all := lw_g (lw_at lw_m7 16 rfl) rfl
theorem q1589 : (Jvm.Cond.code ({ cls := "VotingHuts", name := "agreeing", desc := "(I)I" } : Jvm.MethodName) prog_1_method_46_code (2 : Nat) (Option.some Jvm.ClassFile.FieldType.int)) ∈ lw_all := lw_g (lw_at lw_m7 17 rfl) rfl
theorem q1590 : (Jvm.Cond.methodLink "VotingHuts" (279 : Nat) ({ cls := "VotingHuts$Message", name := "agreeing", desc := "()I" } : Jvm.MethodName)) ∈ lw_all := lw_g (lw_at lw_m7 18 rfl) rfl
theorem q1602 : (Jvm.Cond.instanceMethod ({ cls := "VotingHuts", name := "oldest", desc := "()I" } : Jvm.MethodName)) ∈ lw_all := lw_g (lw_at lw_m7 30 rfl) rfl
theorem q1603 : (Jvm.Cond.selects "VotingHuts" ({ cls := "VotingHuts", name := "oldest", desc := "()I" } : Jvm.MethodName) ({ cls := "VotingHuts", name := "oldest", desc := "()I" } : Jvm.MethodName)) ∈ lw_all := lw_g (lw_at lw_m7 31 rfl) rfl
theorem q1604 : (Jvm.Cond.code ({ cls := "VotingHuts", name := "oldest", desc := "()I" } : Jvm.MethodName) prog_1_method_47_code (4 : Nat) (Option.some Jvm.ClassFile.FieldType.int)) ∈ lw_all := lw_g (lw_at lw_m7 32 rfl) rfl
theorem q1609 : (Jvm.Cond.instanceMethod ({ cls := "VotingHuts", name := "next", desc := "(I)I" } : Jvm.MethodName)) ∈ lw_all := lw_g (lw_at lw_m7 37 rfl) rfl
theorem q1610 : (Jvm.Cond.selects "VotingHuts" ({ cls := "VotingHuts", name := "next", desc := "(I)I" } : Jvm.MethodName) ({ cls := "VotingHuts", name := "next", desc := "(I)I" } : Jvm.MethodName)) ∈ lw_all := lw_g (lw_at lw_m7 38 rfl) rfl
theorem q1611 : (Jvm.Cond.code ({ cls := "VotingHuts", name := "next", desc := "(I)I" } : Jvm.MethodName) prog_1_method_48_code (2 : Nat) (Option.some Jvm.ClassFile.FieldType.int)) ∈ lw_all := lw_g (lw_at lw_m7 39 rfl) rfl
theorem q1612 : (Jvm.Cond.methodLink "VotingHuts" (282 : Nat) ({ cls := "VotingHuts$Message", name := "next", desc := "(II)I" } : Jvm.MethodName)) ∈ lw_all := lw_g (lw_at lw_m7 40 rfl) rfl
theorem q1617 : (Jvm.Cond.instanceMethod ({ cls := "VotingHuts", name := "gap", desc := "()I" } : Jvm.MethodName)) ∈ lw_all := lw_g (lw_at lw_m7 45 rfl) rfl
theorem q1618 : (Jvm.Cond.selects "VotingHuts" ({ cls := "VotingHuts", name := "gap", desc := "()I" } : Jvm.MethodName) ({ cls := "VotingHuts", name := "gap", desc := "()I" } : Jvm.MethodName)) ∈ lw_all := lw_g (lw_at lw_m7 46 rfl) rfl
theorem q1619 : (Jvm.Cond.code ({ cls := "VotingHuts", name := "gap", desc := "()I" } : Jvm.MethodName) prog_1_method_49_code (1 : Nat) (Option.some Jvm.ClassFile.FieldType.int)) ∈ lw_all := lw_g (lw_at lw_m7 47 rfl) rfl
theorem q1620 : (Jvm.Cond.methodLink "VotingHuts" (285 : Nat) ({ cls := "VotingHuts$World", name := "gap", desc := "()I" } : Jvm.MethodName)) ∈ lw_all := lw_g (lw_at lw_m7 48 rfl) rfl
theorem q1639 : (Jvm.Cond.instanceMethod ({ cls := "VotingHuts", name := "logged", desc := "(II)I" } : Jvm.MethodName)) ∈ lw_all := lw_g (lw_at lw_m7 67 rfl) rfl
theorem q1640 : (Jvm.Cond.selects "VotingHuts" ({ cls := "VotingHuts", name := "logged", desc := "(II)I" } : Jvm.MethodName) ({ cls := "VotingHuts", name := "logged", desc := "(II)I" } : Jvm.MethodName)) ∈ lw_all := lw_g (lw_at lw_m7 68 rfl) rfl
theorem q1641 : (Jvm.Cond.code ({ cls := "VotingHuts", name := "logged", desc := "(II)I" } : Jvm.MethodName) prog_1_method_50_code (4 : Nat) (Option.some Jvm.ClassFile.FieldType.int)) ∈ lw_all := lw_g (lw_at lw_m7 69 rfl) rfl
theorem q1642 : (Jvm.Cond.constantLong "VotingHuts" (288 : Nat) (3 : Int64)) ∈ lw_all := lw_g (lw_at lw_m7 70 rfl) rfl
theorem q1643 : (Jvm.Cond.interfaceEntry "VotingHuts" (9 : Nat)) ∈ lw_tbl := lw_at lw_m7 71 rfl
theorem q1644 : (Jvm.Cond.methodLink "VotingHuts" (9 : Nat) ({ cls := "java/util/List", name := "get", desc := "(I)Ljava/lang/Object;" } : Jvm.MethodName)) ∈ lw_all := lw_g (lw_at lw_m7 72 rfl) rfl
theorem q1645 : (Jvm.Cond.classLink "VotingHuts" (299 : Nat) "VotingHuts$Entry") ∈ lw_all := lw_g (lw_at lw_m7 73 rfl) rfl
theorem q1646 : (Jvm.Cond.methodLink "VotingHuts" (301 : Nat) ({ cls := "VotingHuts$Entry", name := "number", desc := "(I)I" } : Jvm.MethodName)) ∈ lw_all := lw_g (lw_at lw_m7 74 rfl) rfl
theorem q1654 : (Jvm.Cond.instanceMethod ({ cls := "VotingHuts", name := "entries", desc := "(I)I" } : Jvm.MethodName)) ∈ lw_all := lw_g (lw_at lw_m7 82 rfl) rfl
theorem q1655 : (Jvm.Cond.selects "VotingHuts" ({ cls := "VotingHuts", name := "entries", desc := "(I)I" } : Jvm.MethodName) ({ cls := "VotingHuts", name := "entries", desc := "(I)I" } : Jvm.MethodName)) ∈ lw_all := lw_g (lw_at lw_m7 83 rfl) rfl
theorem q1656 : (Jvm.Cond.code ({ cls := "VotingHuts", name := "entries", desc := "(I)I" } : Jvm.MethodName) prog_1_method_51_code (6 : Nat) (Option.some Jvm.ClassFile.FieldType.int)) ∈ lw_all := lw_g (lw_at lw_m7 84 rfl) rfl
theorem q1657 : (Jvm.Cond.interfaceEntry "VotingHuts" (304 : Nat)) ∈ lw_tbl := lw_at lw_m7 85 rfl
theorem q1658 : (Jvm.Cond.methodLink "VotingHuts" (304 : Nat) ({ cls := "java/util/List", name := "iterator", desc := "()Ljava/util/Iterator;" } : Jvm.MethodName)) ∈ lw_all := lw_g (lw_at lw_m7 86 rfl) rfl
theorem q1685 : (Jvm.Cond.interfaceEntry "VotingHuts" (308 : Nat)) ∈ lw_tbl := lw_at lw_m7 113 rfl
theorem q1686 : (Jvm.Cond.methodLink "VotingHuts" (308 : Nat) ({ cls := "java/util/Iterator", name := "hasNext", desc := "()Z" } : Jvm.MethodName)) ∈ lw_all := lw_g (lw_at lw_m7 114 rfl) rfl
theorem q1695 : (Jvm.Cond.interfaceEntry "VotingHuts" (314 : Nat)) ∈ lw_tbl := lw_at lw_m7 123 rfl
theorem q1696 : (Jvm.Cond.methodLink "VotingHuts" (314 : Nat) ({ cls := "java/util/Iterator", name := "next", desc := "()Ljava/lang/Object;" } : Jvm.MethodName)) ∈ lw_all := lw_g (lw_at lw_m7 124 rfl) rfl
theorem q1712 : (Jvm.Cond.instanceMethod ({ cls := "VotingHuts", name := "arrivesIn", desc := "(I)I" } : Jvm.MethodName)) ∈ lw_all := lw_g (lw_at lw_m7 140 rfl) rfl
theorem q1713 : (Jvm.Cond.selects "VotingHuts" ({ cls := "VotingHuts", name := "arrivesIn", desc := "(I)I" } : Jvm.MethodName) ({ cls := "VotingHuts", name := "arrivesIn", desc := "(I)I" } : Jvm.MethodName)) ∈ lw_all := lw_g (lw_at lw_m7 141 rfl) rfl
theorem q1714 : (Jvm.Cond.code ({ cls := "VotingHuts", name := "arrivesIn", desc := "(I)I" } : Jvm.MethodName) prog_1_method_52_code (3 : Nat) (Option.some Jvm.ClassFile.FieldType.int)) ∈ lw_all := lw_g (lw_at lw_m7 142 rfl) rfl
theorem q1715 : (Jvm.Cond.methodLink "VotingHuts" (319 : Nat) ({ cls := "VotingHuts$World", name := "then", desc := "(I)LVotingHuts$Message;" } : Jvm.MethodName)) ∈ lw_all := lw_g (lw_at lw_m7 143 rfl) rfl
theorem q1735 : (Jvm.Cond.instanceMethod ({ cls := "VotingHuts", name := "rightThen", desc := "(I)I" } : Jvm.MethodName)) ∈ lw_all := lw_g (lw_at lw_m7 163 rfl) rfl
theorem q1736 : (Jvm.Cond.selects "VotingHuts" ({ cls := "VotingHuts", name := "rightThen", desc := "(I)I" } : Jvm.MethodName) ({ cls := "VotingHuts", name := "rightThen", desc := "(I)I" } : Jvm.MethodName)) ∈ lw_all := lw_g (lw_at lw_m7 164 rfl) rfl
theorem q1737 : (Jvm.Cond.code ({ cls := "VotingHuts", name := "rightThen", desc := "(I)I" } : Jvm.MethodName) prog_1_method_53_code (3 : Nat) (Option.some Jvm.ClassFile.FieldType.int)) ∈ lw_all := lw_g (lw_at lw_m7 165 rfl) rfl
theorem q1742 : (Jvm.Cond.instanceMethod ({ cls := "VotingHuts", name := "believedThen", desc := "(II)I" } : Jvm.MethodName)) ∈ lw_all := lw_g (lw_at lw_m7 170 rfl) rfl
theorem q1743 : (Jvm.Cond.selects "VotingHuts" ({ cls := "VotingHuts", name := "believedThen", desc := "(II)I" } : Jvm.MethodName) ({ cls := "VotingHuts", name := "believedThen", desc := "(II)I" } : Jvm.MethodName)) ∈ lw_all := lw_g (lw_at lw_m7 171 rfl) rfl
theorem q1744 : (Jvm.Cond.code ({ cls := "VotingHuts", name := "believedThen", desc := "(II)I" } : Jvm.MethodName) prog_1_method_54_code (4 : Nat) (Option.some Jvm.ClassFile.FieldType.int)) ∈ lw_all := lw_g (lw_at lw_m7 172 rfl) rfl
theorem q1749 : (Jvm.Cond.instanceMethod ({ cls := "VotingHuts", name := "copiesIn", desc := "(II)I" } : Jvm.MethodName)) ∈ lw_all := lw_g (lw_at lw_m7 177 rfl) rfl
theorem q1750 : (Jvm.Cond.selects "VotingHuts" ({ cls := "VotingHuts", name := "copiesIn", desc := "(II)I" } : Jvm.MethodName) ({ cls := "VotingHuts", name := "copiesIn", desc := "(II)I" } : Jvm.MethodName)) ∈ lw_all := lw_g (lw_at lw_m7 178 rfl) rfl
theorem q1751 : (Jvm.Cond.code ({ cls := "VotingHuts", name := "copiesIn", desc := "(II)I" } : Jvm.MethodName) prog_1_method_55_code (6 : Nat) (Option.some Jvm.ClassFile.FieldType.int)) ∈ lw_all := lw_g (lw_at lw_m7 179 rfl) rfl
theorem q1752 : (Jvm.Cond.constantLong "VotingHuts" (322 : Nat) (50 : Int64)) ∈ lw_all := lw_g (lw_at lw_m7 180 rfl) rfl
theorem q1753 : (Jvm.Cond.constantLong "VotingHuts" (324 : Nat) (2 : Int64)) ∈ lw_all := lw_g (lw_at lw_m7 181 rfl) rfl
theorem q1754 : (Jvm.Cond.methodLink "VotingHuts" (128 : Nat) ({ cls := "VotingHuts$World", name := "<init>", desc := "(LVotingHuts$World;)V" } : Jvm.MethodName)) ∈ lw_all := lw_g (lw_at lw_m7 182 rfl) rfl
theorem q1762 : (Jvm.Cond.static ({ cls := "VotingHuts", name := "copies", desc := "(Ljava/util/List;Ljava/util/List;)V" } : Jvm.MethodName)) ∈ lw_all := lw_g (lw_at lw_m7 190 rfl) rfl
theorem q1763 : (Jvm.Cond.code ({ cls := "VotingHuts", name := "copies", desc := "(Ljava/util/List;Ljava/util/List;)V" } : Jvm.MethodName) prog_1_method_4_code (4 : Nat) (Option.none : Option Jvm.ClassFile.FieldType)) ∈ lw_all := lw_g (lw_at lw_m7 191 rfl) rfl
theorem q1764 : (Jvm.Cond.interfaceEntry "VotingHuts" (13 : Nat)) ∈ lw_tbl := lw_at lw_m7 192 rfl
theorem q1765 : (Jvm.Cond.methodLink "VotingHuts" (13 : Nat) ({ cls := "java/util/List", name := "add", desc := "(Ljava/lang/Object;)Z" } : Jvm.MethodName)) ∈ lw_all := lw_g (lw_at lw_m7 193 rfl) rfl
theorem q1766 : (Jvm.Cond.methodLink "VotingHuts" (326 : Nat) ({ cls := "VotingHuts$World", name := "hours", desc := "(I)I" } : Jvm.MethodName)) ∈ lw_all := lw_g (lw_at lw_m7 194 rfl) rfl
theorem q1771 : (Jvm.Cond.instanceMethod ({ cls := "VotingHuts", name := "rightIf", desc := "(IIII)I" } : Jvm.MethodName)) ∈ lw_all := lw_g (lw_at lw_m7 199 rfl) rfl
theorem q1772 : (Jvm.Cond.selects "VotingHuts" ({ cls := "VotingHuts", name := "rightIf", desc := "(IIII)I" } : Jvm.MethodName) ({ cls := "VotingHuts", name := "rightIf", desc := "(IIII)I" } : Jvm.MethodName)) ∈ lw_all := lw_g (lw_at lw_m7 200 rfl) rfl
theorem q1773 : (Jvm.Cond.code ({ cls := "VotingHuts", name := "rightIf", desc := "(IIII)I" } : Jvm.MethodName) prog_1_method_57_code (6 : Nat) (Option.some Jvm.ClassFile.FieldType.int)) ∈ lw_all := lw_g (lw_at lw_m7 201 rfl) rfl
theorem q1774 : (Jvm.Cond.methodLink "VotingHuts" (336 : Nat) ({ cls := "VotingHuts", name := "checkTwo", desc := "(II)LVotingHuts$World;" } : Jvm.MethodName)) ∈ lw_all := lw_g (lw_at lw_m7 202 rfl) rfl
theorem q1775 : (Jvm.Cond.privateMethod ({ cls := "VotingHuts", name := "checkTwo", desc := "(II)LVotingHuts$World;" } : Jvm.MethodName)) ∈ lw_tbl := lw_at lw_m7 203 rfl
theorem q1776 : (Jvm.Cond.instanceMethod ({ cls := "VotingHuts", name := "checkTwo", desc := "(II)LVotingHuts$World;" } : Jvm.MethodName)) ∈ lw_all := lw_g (lw_at lw_m7 204 rfl) rfl
theorem q1777 : (Jvm.Cond.code ({ cls := "VotingHuts", name := "checkTwo", desc := "(II)LVotingHuts$World;" } : Jvm.MethodName) prog_1_method_18_code (4 : Nat) (Option.some (Jvm.ClassFile.FieldType.object "VotingHuts$World"))) ∈ lw_all := lw_g (lw_at lw_m7 205 rfl) rfl
theorem q1778 : (Jvm.Cond.methodLink "VotingHuts" (91 : Nat) ({ cls := "VotingHuts$Wires", name := "size", desc := "()I" } : Jvm.MethodName)) ∈ lw_all := lw_g (lw_at lw_m7 206 rfl) rfl
theorem q1779 : (Jvm.Cond.methodLink "VotingHuts" (340 : Nat) ({ cls := "VotingHuts", name := "checkStorm", desc := "(II)V" } : Jvm.MethodName)) ∈ lw_all := lw_g (lw_at lw_m7 207 rfl) rfl
theorem q1780 : (Jvm.Cond.static ({ cls := "VotingHuts", name := "checkStorm", desc := "(II)V" } : Jvm.MethodName)) ∈ lw_all := lw_g (lw_at lw_m7 208 rfl) rfl
theorem q1781 : (Jvm.Cond.code ({ cls := "VotingHuts", name := "checkStorm", desc := "(II)V" } : Jvm.MethodName) prog_1_method_19_code (2 : Nat) (Option.none : Option Jvm.ClassFile.FieldType)) ∈ lw_all := lw_g (lw_at lw_m7 209 rfl) rfl
theorem q1782 : (Jvm.Cond.methodLink "VotingHuts" (343 : Nat) ({ cls := "VotingHuts", name := "rightWith", desc := "(IIII)I" } : Jvm.MethodName)) ∈ lw_all := lw_g (lw_at lw_m7 210 rfl) rfl
theorem q1783 : (Jvm.Cond.privateMethod ({ cls := "VotingHuts", name := "rightWith", desc := "(IIII)I" } : Jvm.MethodName)) ∈ lw_tbl := lw_at lw_m7 211 rfl
theorem q1784 : (Jvm.Cond.instanceMethod ({ cls := "VotingHuts", name := "rightWith", desc := "(IIII)I" } : Jvm.MethodName)) ∈ lw_all := lw_g (lw_at lw_m7 212 rfl) rfl
theorem q1785 : (Jvm.Cond.code ({ cls := "VotingHuts", name := "rightWith", desc := "(IIII)I" } : Jvm.MethodName) prog_1_method_56_code (5 : Nat) (Option.some Jvm.ClassFile.FieldType.int)) ∈ lw_all := lw_g (lw_at lw_m7 213 rfl) rfl
theorem q1786 : (Jvm.Cond.methodLink "VotingHuts" (329 : Nat) ({ cls := "VotingHuts$Wires", name := "with", desc := "(III)LVotingHuts$Wires;" } : Jvm.MethodName)) ∈ lw_all := lw_g (lw_at lw_m7 214 rfl) rfl
theorem q1792 : (Jvm.Cond.methodLink "VotingHuts" (333 : Nat) ({ cls := "VotingHuts$World", name := "then", desc := "(ILVotingHuts$Wires;)LVotingHuts$Message;" } : Jvm.MethodName)) ∈ lw_all := lw_g (lw_at lw_m7 220 rfl) rfl
theorem q1800 : (Jvm.Cond.instanceMethod ({ cls := "VotingHuts", name := "needless", desc := "(II)Z" } : Jvm.MethodName)) ∈ lw_all := lw_g (lw_at lw_m7 228 rfl) rfl
theorem q1801 : (Jvm.Cond.selects "VotingHuts" ({ cls := "VotingHuts", name := "needless", desc := "(II)Z" } : Jvm.MethodName) ({ cls := "VotingHuts", name := "needless", desc := "(II)Z" } : Jvm.MethodName)) ∈ lw_all := lw_g (lw_at lw_m7 229 rfl) rfl
theorem q1802 : (Jvm.Cond.code ({ cls := "VotingHuts", name := "needless", desc := "(II)Z" } : Jvm.MethodName) prog_1_method_58_code (4 : Nat) (Option.some Jvm.ClassFile.FieldType.boolean)) ∈ lw_all := lw_g (lw_at lw_m7 230 rfl) rfl
theorem q1803 : (Jvm.Cond.methodLink "VotingHuts" (346 : Nat) ({ cls := "VotingHuts$World", name := "isNeedless", desc := "(LVotingHuts$Message;II)Z" } : Jvm.MethodName)) ∈ lw_all := lw_g (lw_at lw_m7 231 rfl) rfl
theorem q1818 : (Jvm.Cond.instanceMethod ({ cls := "VotingHuts", name := "bestCut", desc := "(I)I" } : Jvm.MethodName)) ∈ lw_all := lw_g (lw_at lw_m8 6 rfl) rfl
theorem q1819 : (Jvm.Cond.selects "VotingHuts" ({ cls := "VotingHuts", name := "bestCut", desc := "(I)I" } : Jvm.MethodName) ({ cls := "VotingHuts", name := "bestCut", desc := "(I)I" } : Jvm.MethodName)) ∈ lw_all := lw_g (lw_at lw_m8 7 rfl) rfl
theorem q1820 : (Jvm.Cond.code ({ cls := "VotingHuts", name := "bestCut", desc := "(I)I" } : Jvm.MethodName) prog_1_method_59_code (7 : Nat) (Option.some Jvm.ClassFile.FieldType.int)) ∈ lw_all := lw_g (lw_at lw_m8 8 rfl) rfl
theorem q1821 : (Jvm.Cond.methodLink "VotingHuts" (350 : Nat) ({ cls := "VotingHuts$Wires", name := "without", desc := "(I)LVotingHuts$Wires;" } : Jvm.MethodName)) ∈ lw_all := lw_g (lw_at lw_m8 9 rfl) rfl
theorem q1826 : (Jvm.Cond.instanceMethod ({ cls := "VotingHuts", name := "needed", desc := "(I)I" } : Jvm.MethodName)) ∈ lw_all := lw_g (lw_at lw_m8 14 rfl) rfl
theorem q1827 : (Jvm.Cond.selects "VotingHuts" ({ cls := "VotingHuts", name := "needed", desc := "(I)I" } : Jvm.MethodName) ({ cls := "VotingHuts", name := "needed", desc := "(I)I" } : Jvm.MethodName)) ∈ lw_all := lw_g (lw_at lw_m8 15 rfl) rfl
theorem q1828 : (Jvm.Cond.code ({ cls := "VotingHuts", name := "needed", desc := "(I)I" } : Jvm.MethodName) prog_1_method_60_code (6 : Nat) (Option.some Jvm.ClassFile.FieldType.int)) ∈ lw_all := lw_g (lw_at lw_m8 16 rfl) rfl
theorem q1833 : (Jvm.Cond.instanceMethod ({ cls := "VotingHuts", name := "bestAsks", desc := "(I)I" } : Jvm.MethodName)) ∈ lw_all := lw_g (lw_at lw_m8 21 rfl) rfl
theorem q1834 : (Jvm.Cond.selects "VotingHuts" ({ cls := "VotingHuts", name := "bestAsks", desc := "(I)I" } : Jvm.MethodName) ({ cls := "VotingHuts", name := "bestAsks", desc := "(I)I" } : Jvm.MethodName)) ∈ lw_all := lw_g (lw_at lw_m8 22 rfl) rfl
theorem q1835 : (Jvm.Cond.code ({ cls := "VotingHuts", name := "bestAsks", desc := "(I)I" } : Jvm.MethodName) prog_1_method_61_code (7 : Nat) (Option.some Jvm.ClassFile.FieldType.int)) ∈ lw_all := lw_g (lw_at lw_m8 23 rfl) rfl
theorem q1836 : (Jvm.Cond.methodLink "VotingHuts" (354 : Nat) ({ cls := "VotingHuts$World", name := "then", desc := "(LVotingHuts$Message;LVotingHuts$Wires;II)LVotingHuts$Message;" } : Jvm.MethodName)) ∈ lw_all := lw_g (lw_at lw_m8 24 rfl) rfl
theorem q1841 : (Jvm.Cond.instanceMethod ({ cls := "VotingHuts", name := "bestStart", desc := "(III)I" } : Jvm.MethodName)) ∈ lw_all := lw_g (lw_at lw_m8 29 rfl) rfl
theorem q1842 : (Jvm.Cond.selects "VotingHuts" ({ cls := "VotingHuts", name := "bestStart", desc := "(III)I" } : Jvm.MethodName) ({ cls := "VotingHuts", name := "bestStart", desc := "(III)I" } : Jvm.MethodName)) ∈ lw_all := lw_g (lw_at lw_m8 30 rfl) rfl
theorem q1843 : (Jvm.Cond.code ({ cls := "VotingHuts", name := "bestStart", desc := "(III)I" } : Jvm.MethodName) prog_1_method_62_code (10 : Nat) (Option.some Jvm.ClassFile.FieldType.int)) ∈ lw_all := lw_g (lw_at lw_m8 31 rfl) rfl
theorem q1844 : (Jvm.Cond.constantLong "VotingHuts" (357 : Nat) (12 : Int64)) ∈ lw_all := lw_g (lw_at lw_m8 32 rfl) rfl
theorem q1845 : (Jvm.Cond.constantLong "VotingHuts" (359 : Nat) (20 : Int64)) ∈ lw_all := lw_g (lw_at lw_m8 33 rfl) rfl
theorem q1846 : (Jvm.Cond.methodLink "VotingHuts" (361 : Nat) ({ cls := "VotingHuts", name := "same", desc := "(II)[I" } : Jvm.MethodName)) ∈ lw_all := lw_g (lw_at lw_m8 34 rfl) rfl
theorem q1847 : (Jvm.Cond.classLink "VotingHuts" (106 : Nat) "VotingHuts$Message") ∈ lw_all := lw_g (lw_at lw_m8 35 rfl) rfl
theorem q1848 : (Jvm.Cond.methodLink "VotingHuts" (365 : Nat) ({ cls := "VotingHuts$Message", name := "<init>", desc := "(I[I)V" } : Jvm.MethodName)) ∈ lw_all := lw_g (lw_at lw_m8 36 rfl) rfl
theorem q1853 : (Jvm.Cond.instanceMethod ({ cls := "VotingHuts", name := "leastStorm", desc := "(II)I" } : Jvm.MethodName)) ∈ lw_all := lw_g (lw_at lw_m8 41 rfl) rfl
theorem q1854 : (Jvm.Cond.selects "VotingHuts" ({ cls := "VotingHuts", name := "leastStorm", desc := "(II)I" } : Jvm.MethodName) ({ cls := "VotingHuts", name := "leastStorm", desc := "(II)I" } : Jvm.MethodName)) ∈ lw_all := lw_g (lw_at lw_m8 42 rfl) rfl
theorem q1855 : (Jvm.Cond.code ({ cls := "VotingHuts", name := "leastStorm", desc := "(II)I" } : Jvm.MethodName) prog_1_method_63_code (7 : Nat) (Option.some Jvm.ClassFile.FieldType.int)) ∈ lw_all := lw_g (lw_at lw_m8 43 rfl) rfl
theorem q1860 : (Jvm.Cond.instanceMethod ({ cls := "VotingHuts", name := "share", desc := "()F" } : Jvm.MethodName)) ∈ lw_all := lw_g (lw_at lw_m8 48 rfl) rfl
theorem q1861 : (Jvm.Cond.selects "VotingHuts" ({ cls := "VotingHuts", name := "share", desc := "()F" } : Jvm.MethodName) ({ cls := "VotingHuts", name := "share", desc := "()F" } : Jvm.MethodName)) ∈ lw_all := lw_g (lw_at lw_m8 49 rfl) rfl
theorem q1862 : (Jvm.Cond.code ({ cls := "VotingHuts", name := "share", desc := "()F" } : Jvm.MethodName) prog_1_method_64_code (2 : Nat) (Option.some Jvm.ClassFile.FieldType.float)) ∈ lw_all := lw_g (lw_at lw_m8 50 rfl) rfl
theorem q1867 : (Jvm.Cond.instanceMethod ({ cls := "VotingHuts", name := "meanHours", desc := "()D" } : Jvm.MethodName)) ∈ lw_all := lw_g (lw_at lw_m8 55 rfl) rfl
theorem q1868 : (Jvm.Cond.selects "VotingHuts" ({ cls := "VotingHuts", name := "meanHours", desc := "()D" } : Jvm.MethodName) ({ cls := "VotingHuts", name := "meanHours", desc := "()D" } : Jvm.MethodName)) ∈ lw_all := lw_g (lw_at lw_m8 56 rfl) rfl
theorem q1869 : (Jvm.Cond.code ({ cls := "VotingHuts", name := "meanHours", desc := "()D" } : Jvm.MethodName) prog_1_method_65_code (5 : Nat) (Option.some Jvm.ClassFile.FieldType.double)) ∈ lw_all := lw_g (lw_at lw_m8 57 rfl) rfl
theorem q1874 : (Jvm.Cond.instanceMethod ({ cls := "VotingHuts", name := "writeMessage", desc := "(I)I" } : Jvm.MethodName)) ∈ lw_all := lw_g (lw_at lw_m8 62 rfl) rfl
theorem q1875 : (Jvm.Cond.selects "VotingHuts" ({ cls := "VotingHuts", name := "writeMessage", desc := "(I)I" } : Jvm.MethodName) ({ cls := "VotingHuts", name := "writeMessage", desc := "(I)I" } : Jvm.MethodName)) ∈ lw_all := lw_g (lw_at lw_m8 63 rfl) rfl
theorem q1876 : (Jvm.Cond.code ({ cls := "VotingHuts", name := "writeMessage", desc := "(I)I" } : Jvm.MethodName) prog_1_method_67_code (8 : Nat) (Option.some Jvm.ClassFile.FieldType.int)) ∈ lw_all := lw_g (lw_at lw_m8 64 rfl) rfl
theorem q1877 : (Jvm.Cond.methodLink "VotingHuts" (375 : Nat) ({ cls := "java/lang/StringBuilder", name := "setLength", desc := "(I)V" } : Jvm.MethodName)) ∈ lw_all := lw_g (lw_at lw_m8 65 rfl) rfl
theorem q1929 : (Jvm.Cond.methodLink "VotingHuts" (368 : Nat) ({ cls := "java/lang/StringBuilder", name := "append", desc := "(C)Ljava/lang/StringBuilder;" } : Jvm.MethodName)) ∈ lw_all := lw_g (lw_at lw_m8 117 rfl) rfl
theorem q1930 : (Jvm.Cond.methodLink "VotingHuts" (379 : Nat) ({ cls := "VotingHuts", name := "says", desc := "(I)V" } : Jvm.MethodName)) ∈ lw_all := lw_g (lw_at lw_m8 118 rfl) rfl
theorem q1931 : (Jvm.Cond.privateMethod ({ cls := "VotingHuts", name := "says", desc := "(I)V" } : Jvm.MethodName)) ∈ lw_tbl := lw_at lw_m8 119 rfl
theorem q1932 : (Jvm.Cond.instanceMethod ({ cls := "VotingHuts", name := "says", desc := "(I)V" } : Jvm.MethodName)) ∈ lw_all := lw_g (lw_at lw_m8 120 rfl) rfl
theorem q1933 : (Jvm.Cond.code ({ cls := "VotingHuts", name := "says", desc := "(I)V" } : Jvm.MethodName) prog_1_method_66_code (2 : Nat) (Option.none : Option Jvm.ClassFile.FieldType)) ∈ lw_all := lw_g (lw_at lw_m8 121 rfl) rfl
theorem q1934 : (Jvm.Cond.methodLink "VotingHuts" (372 : Nat) ({ cls := "java/lang/StringBuilder", name := "append", desc := "(I)Ljava/lang/StringBuilder;" } : Jvm.MethodName)) ∈ lw_all := lw_g (lw_at lw_m8 122 rfl) rfl
theorem q1935 : (Jvm.Cond.methodLink "VotingHuts" (382 : Nat) ({ cls := "java/lang/StringBuilder", name := "length", desc := "()I" } : Jvm.MethodName)) ∈ lw_all := lw_g (lw_at lw_m8 123 rfl) rfl
theorem q1940 : (Jvm.Cond.instanceMethod ({ cls := "VotingHuts", name := "writeBelieved", desc := "(I)I" } : Jvm.MethodName)) ∈ lw_all := lw_g (lw_at lw_m8 128 rfl) rfl
theorem q1941 : (Jvm.Cond.selects "VotingHuts" ({ cls := "VotingHuts", name := "writeBelieved", desc := "(I)I" } : Jvm.MethodName) ({ cls := "VotingHuts", name := "writeBelieved", desc := "(I)I" } : Jvm.MethodName)) ∈ lw_all := lw_g (lw_at lw_m8 129 rfl) rfl
theorem q1942 : (Jvm.Cond.code ({ cls := "VotingHuts", name := "writeBelieved", desc := "(I)I" } : Jvm.MethodName) prog_1_method_68_code (4 : Nat) (Option.some Jvm.ClassFile.FieldType.int)) ∈ lw_all := lw_g (lw_at lw_m8 130 rfl) rfl
theorem q1947 : (Jvm.Cond.instanceMethod ({ cls := "VotingHuts", name := "writeWires", desc := "(I)I" } : Jvm.MethodName)) ∈ lw_all := lw_g (lw_at lw_m8 135 rfl) rfl
theorem q1948 : (Jvm.Cond.selects "VotingHuts" ({ cls := "VotingHuts", name := "writeWires", desc := "(I)I" } : Jvm.MethodName) ({ cls := "VotingHuts", name := "writeWires", desc := "(I)I" } : Jvm.MethodName)) ∈ lw_all := lw_g (lw_at lw_m8 136 rfl) rfl
theorem q1949 : (Jvm.Cond.code ({ cls := "VotingHuts", name := "writeWires", desc := "(I)I" } : Jvm.MethodName) prog_1_method_69_code (4 : Nat) (Option.some Jvm.ClassFile.FieldType.int)) ∈ lw_all := lw_g (lw_at lw_m8 137 rfl) rfl
theorem q1954 : (Jvm.Cond.instanceMethod ({ cls := "VotingHuts", name := "writeLog", desc := "()I" } : Jvm.MethodName)) ∈ lw_all := lw_g (lw_at lw_m8 142 rfl) rfl
theorem q1955 : (Jvm.Cond.selects "VotingHuts" ({ cls := "VotingHuts", name := "writeLog", desc := "()I" } : Jvm.MethodName) ({ cls := "VotingHuts", name := "writeLog", desc := "()I" } : Jvm.MethodName)) ∈ lw_all := lw_g (lw_at lw_m8 143 rfl) rfl
theorem q1956 : (Jvm.Cond.code ({ cls := "VotingHuts", name := "writeLog", desc := "()I" } : Jvm.MethodName) prog_1_method_70_code (4 : Nat) (Option.some Jvm.ClassFile.FieldType.int)) ∈ lw_all := lw_g (lw_at lw_m8 144 rfl) rfl
theorem q1957 : (Jvm.Cond.stringRef "VotingHuts" (384 : Nat) "sgar") ∈ lw_tbl := lw_at lw_m8 145 rfl
theorem q1958 : (Jvm.Cond.methodLink "VotingHuts" (386 : Nat) ({ cls := "java/lang/String", name := "charAt", desc := "(I)C" } : Jvm.MethodName)) ∈ lw_all := lw_g (lw_at lw_m8 146 rfl) rfl
theorem q1973 : (Jvm.Cond.instanceMethod ({ cls := "VotingHuts", name := "textByte", desc := "(I)I" } : Jvm.MethodName)) ∈ lw_all := lw_g (lw_at lw_m8 161 rfl) rfl
theorem q1974 : (Jvm.Cond.selects "VotingHuts" ({ cls := "VotingHuts", name := "textByte", desc := "(I)I" } : Jvm.MethodName) ({ cls := "VotingHuts", name := "textByte", desc := "(I)I" } : Jvm.MethodName)) ∈ lw_all := lw_g (lw_at lw_m8 162 rfl) rfl
theorem q1975 : (Jvm.Cond.code ({ cls := "VotingHuts", name := "textByte", desc := "(I)I" } : Jvm.MethodName) prog_1_method_71_code (2 : Nat) (Option.some Jvm.ClassFile.FieldType.int)) ∈ lw_all := lw_g (lw_at lw_m8 163 rfl) rfl
theorem q1976 : (Jvm.Cond.methodLink "VotingHuts" (394 : Nat) ({ cls := "java/lang/StringBuilder", name := "charAt", desc := "(I)C" } : Jvm.MethodName)) ∈ lw_all := lw_g (lw_at lw_m8 164 rfl) rfl
theorem q1990 : (Jvm.Cond.instanceMethod ({ cls := "VotingHuts", name := "send", desc := "(II)I" } : Jvm.MethodName)) ∈ lw_all := lw_g (lw_at lw_m8 178 rfl) rfl
theorem q1991 : (Jvm.Cond.selects "VotingHuts" ({ cls := "VotingHuts", name := "send", desc := "(II)I" } : Jvm.MethodName) ({ cls := "VotingHuts", name := "send", desc := "(II)I" } : Jvm.MethodName)) ∈ lw_all := lw_g (lw_at lw_m8 179 rfl) rfl
theorem q1992 : (Jvm.Cond.code ({ cls := "VotingHuts", name := "send", desc := "(II)I" } : Jvm.MethodName) prog_1_method_72_code (6 : Nat) (Option.some Jvm.ClassFile.FieldType.int)) ∈ lw_all := lw_g (lw_at lw_m8 180 rfl) rfl
theorem q1993 : (Jvm.Cond.fieldLink "VotingHuts" (395 : Nat) "VotingHuts" "UNITS" "[I") ∈ lw_all := lw_g (lw_at lw_m8 181 rfl) rfl
theorem q1994 : (Jvm.Cond.laysStatic "VotingHuts" "UNITS" "[I") ∈ lw_tbl := lw_at lw_m8 182 rfl
theorem q1995 : (Jvm.Cond.methodLink "VotingHuts" (398 : Nat) ({ cls := "VotingHuts", name := "changed", desc := "()LVotingHuts$World;" } : Jvm.MethodName)) ∈ lw_all := lw_g (lw_at lw_m8 183 rfl) rfl
theorem q1996 : (Jvm.Cond.privateMethod ({ cls := "VotingHuts", name := "changed", desc := "()LVotingHuts$World;" } : Jvm.MethodName)) ∈ lw_tbl := lw_at lw_m8 184 rfl
theorem q1997 : (Jvm.Cond.instanceMethod ({ cls := "VotingHuts", name := "changed", desc := "()LVotingHuts$World;" } : Jvm.MethodName)) ∈ lw_all := lw_g (lw_at lw_m8 185 rfl) rfl
theorem q1998 : (Jvm.Cond.code ({ cls := "VotingHuts", name := "changed", desc := "()LVotingHuts$World;" } : Jvm.MethodName) prog_1_method_20_code (1 : Nat) (Option.some (Jvm.ClassFile.FieldType.object "VotingHuts$World"))) ∈ lw_all := lw_g (lw_at lw_m8 186 rfl) rfl
theorem q1999 : (Jvm.Cond.methodLink "VotingHuts" (120 : Nat) ({ cls := "java/util/ArrayDeque", name := "removeFirst", desc := "()Ljava/lang/Object;" } : Jvm.MethodName)) ∈ lw_all := lw_g (lw_at lw_m8 187 rfl) rfl
theorem q2013 : (Jvm.Cond.methodLink "VotingHuts" (124 : Nat) ({ cls := "java/util/ArrayDeque", name := "addLast", desc := "(Ljava/lang/Object;)V" } : Jvm.MethodName)) ∈ lw_all := lw_g (lw_at lw_m8 201 rfl) rfl
theorem q2035 : (Jvm.Cond.methodLink "VotingHuts" (401 : Nat) ({ cls := "VotingHuts$World", name := "sends", desc := "([I)I" } : Jvm.MethodName)) ∈ lw_all := lw_g (lw_at lw_m8 223 rfl) rfl
theorem q2040 : (Jvm.Cond.instanceMethod ({ cls := "VotingHuts", name := "sendSame", desc := "(II)I" } : Jvm.MethodName)) ∈ lw_all := lw_g (lw_at lw_m8 228 rfl) rfl
theorem q2041 : (Jvm.Cond.selects "VotingHuts" ({ cls := "VotingHuts", name := "sendSame", desc := "(II)I" } : Jvm.MethodName) ({ cls := "VotingHuts", name := "sendSame", desc := "(II)I" } : Jvm.MethodName)) ∈ lw_all := lw_g (lw_at lw_m8 229 rfl) rfl
theorem q2042 : (Jvm.Cond.code ({ cls := "VotingHuts", name := "sendSame", desc := "(II)I" } : Jvm.MethodName) prog_1_method_73_code (4 : Nat) (Option.some Jvm.ClassFile.FieldType.int)) ∈ lw_all := lw_g (lw_at lw_m8 230 rfl) rfl
theorem q2047 : (Jvm.Cond.instanceMethod ({ cls := "VotingHuts", name := "resend", desc := "(I)I" } : Jvm.MethodName)) ∈ lw_all := lw_g (lw_at lw_m8 235 rfl) rfl
theorem q2048 : (Jvm.Cond.selects "VotingHuts" ({ cls := "VotingHuts", name := "resend", desc := "(I)I" } : Jvm.MethodName) ({ cls := "VotingHuts", name := "resend", desc := "(I)I" } : Jvm.MethodName)) ∈ lw_all := lw_g (lw_at lw_m8 236 rfl) rfl
theorem q2049 : (Jvm.Cond.code ({ cls := "VotingHuts", name := "resend", desc := "(I)I" } : Jvm.MethodName) prog_1_method_74_code (3 : Nat) (Option.some Jvm.ClassFile.FieldType.int)) ∈ lw_all := lw_g (lw_at lw_m8 237 rfl) rfl
theorem q2054 : (Jvm.Cond.instanceMethod ({ cls := "VotingHuts", name := "pass", desc := "(I)I" } : Jvm.MethodName)) ∈ lw_all := lw_g (lw_at lw_m9 2 rfl) rfl
theorem q2055 : (Jvm.Cond.selects "VotingHuts" ({ cls := "VotingHuts", name := "pass", desc := "(I)I" } : Jvm.MethodName) ({ cls := "VotingHuts", name := "pass", desc := "(I)I" } : Jvm.MethodName)) ∈ lw_all := lw_g (lw_at lw_m9 3 rfl) rfl
theorem q2056 : (Jvm.Cond.code ({ cls := "VotingHuts", name := "pass", desc := "(I)I" } : Jvm.MethodName) prog_1_method_75_code (3 : Nat) (Option.some Jvm.ClassFile.FieldType.int)) ∈ lw_all := lw_g (lw_at lw_m9 4 rfl) rfl
theorem q2061 : (Jvm.Cond.instanceMethod ({ cls := "VotingHuts", name := "setStorm", desc := "(III)I" } : Jvm.MethodName)) ∈ lw_all := lw_g (lw_at lw_m9 9 rfl) rfl
theorem q2062 : (Jvm.Cond.selects "VotingHuts" ({ cls := "VotingHuts", name := "setStorm", desc := "(III)I" } : Jvm.MethodName) ({ cls := "VotingHuts", name := "setStorm", desc := "(III)I" } : Jvm.MethodName)) ∈ lw_all := lw_g (lw_at lw_m9 10 rfl) rfl
theorem q2063 : (Jvm.Cond.code ({ cls := "VotingHuts", name := "setStorm", desc := "(III)I" } : Jvm.MethodName) prog_1_method_76_code (6 : Nat) (Option.some Jvm.ClassFile.FieldType.int)) ∈ lw_all := lw_g (lw_at lw_m9 11 rfl) rfl
theorem q2064 : (Jvm.Cond.methodLink "VotingHuts" (405 : Nat) ({ cls := "VotingHuts", name := "checkWire", desc := "(I)LVotingHuts$World;" } : Jvm.MethodName)) ∈ lw_all := lw_g (lw_at lw_m9 12 rfl) rfl
theorem q2065 : (Jvm.Cond.privateMethod ({ cls := "VotingHuts", name := "checkWire", desc := "(I)LVotingHuts$World;" } : Jvm.MethodName)) ∈ lw_tbl := lw_at lw_m9 13 rfl
theorem q2066 : (Jvm.Cond.instanceMethod ({ cls := "VotingHuts", name := "checkWire", desc := "(I)LVotingHuts$World;" } : Jvm.MethodName)) ∈ lw_all := lw_g (lw_at lw_m9 14 rfl) rfl
theorem q2067 : (Jvm.Cond.code ({ cls := "VotingHuts", name := "checkWire", desc := "(I)LVotingHuts$World;" } : Jvm.MethodName) prog_1_method_13_code (3 : Nat) (Option.some (Jvm.ClassFile.FieldType.object "VotingHuts$World"))) ∈ lw_all := lw_g (lw_at lw_m9 15 rfl) rfl
theorem q2072 : (Jvm.Cond.instanceMethod ({ cls := "VotingHuts", name := "calm", desc := "()I" } : Jvm.MethodName)) ∈ lw_all := lw_g (lw_at lw_m9 20 rfl) rfl
theorem q2073 : (Jvm.Cond.selects "VotingHuts" ({ cls := "VotingHuts", name := "calm", desc := "()I" } : Jvm.MethodName) ({ cls := "VotingHuts", name := "calm", desc := "()I" } : Jvm.MethodName)) ∈ lw_all := lw_g (lw_at lw_m9 21 rfl) rfl
theorem q2074 : (Jvm.Cond.code ({ cls := "VotingHuts", name := "calm", desc := "()I" } : Jvm.MethodName) prog_1_method_77_code (2 : Nat) (Option.some Jvm.ClassFile.FieldType.int)) ∈ lw_all := lw_g (lw_at lw_m9 22 rfl) rfl
theorem q2075 : (Jvm.Cond.methodLink "VotingHuts" (408 : Nat) ({ cls := "VotingHuts$Wires", name := "calms", desc := "()I" } : Jvm.MethodName)) ∈ lw_all := lw_g (lw_at lw_m9 23 rfl) rfl
theorem q2080 : (Jvm.Cond.instanceMethod ({ cls := "VotingHuts", name := "turnWire", desc := "(I)I" } : Jvm.MethodName)) ∈ lw_all := lw_g (lw_at lw_m9 28 rfl) rfl
theorem q2081 : (Jvm.Cond.selects "VotingHuts" ({ cls := "VotingHuts", name := "turnWire", desc := "(I)I" } : Jvm.MethodName) ({ cls := "VotingHuts", name := "turnWire", desc := "(I)I" } : Jvm.MethodName)) ∈ lw_all := lw_g (lw_at lw_m9 29 rfl) rfl
theorem q2082 : (Jvm.Cond.code ({ cls := "VotingHuts", name := "turnWire", desc := "(I)I" } : Jvm.MethodName) prog_1_method_78_code (4 : Nat) (Option.some Jvm.ClassFile.FieldType.int)) ∈ lw_all := lw_g (lw_at lw_m9 30 rfl) rfl
theorem q2087 : (Jvm.Cond.instanceMethod ({ cls := "VotingHuts", name := "mendAll", desc := "()I" } : Jvm.MethodName)) ∈ lw_all := lw_g (lw_at lw_m9 35 rfl) rfl
theorem q2088 : (Jvm.Cond.selects "VotingHuts" ({ cls := "VotingHuts", name := "mendAll", desc := "()I" } : Jvm.MethodName) ({ cls := "VotingHuts", name := "mendAll", desc := "()I" } : Jvm.MethodName)) ∈ lw_all := lw_g (lw_at lw_m9 36 rfl) rfl
theorem q2089 : (Jvm.Cond.code ({ cls := "VotingHuts", name := "mendAll", desc := "()I" } : Jvm.MethodName) prog_1_method_79_code (2 : Nat) (Option.some Jvm.ClassFile.FieldType.int)) ∈ lw_all := lw_g (lw_at lw_m9 37 rfl) rfl
theorem q2090 : (Jvm.Cond.methodLink "VotingHuts" (411 : Nat) ({ cls := "VotingHuts$Wires", name := "mends", desc := "()I" } : Jvm.MethodName)) ∈ lw_all := lw_g (lw_at lw_m9 38 rfl) rfl
theorem q2098 : (Jvm.Cond.instanceMethod ({ cls := "VotingHuts", name := "turnLevel", desc := "(I)I" } : Jvm.MethodName)) ∈ lw_all := lw_g (lw_at lw_m9 46 rfl) rfl
theorem q2099 : (Jvm.Cond.selects "VotingHuts" ({ cls := "VotingHuts", name := "turnLevel", desc := "(I)I" } : Jvm.MethodName) ({ cls := "VotingHuts", name := "turnLevel", desc := "(I)I" } : Jvm.MethodName)) ∈ lw_all := lw_g (lw_at lw_m9 47 rfl) rfl
theorem q2100 : (Jvm.Cond.code ({ cls := "VotingHuts", name := "turnLevel", desc := "(I)I" } : Jvm.MethodName) prog_1_method_80_code (3 : Nat) (Option.some Jvm.ClassFile.FieldType.int)) ∈ lw_all := lw_g (lw_at lw_m9 48 rfl) rfl
theorem q2101 : (Jvm.Cond.methodLink "VotingHuts" (414 : Nat) ({ cls := "VotingHuts$Wires", name := "turns", desc := "(I)I" } : Jvm.MethodName)) ∈ lw_all := lw_g (lw_at lw_m9 49 rfl) rfl
theorem q2109 : (Jvm.Cond.instanceMethod ({ cls := "VotingHuts", name := "setAsks", desc := "(I)I" } : Jvm.MethodName)) ∈ lw_all := lw_g (lw_at lw_m9 57 rfl) rfl
theorem q2110 : (Jvm.Cond.selects "VotingHuts" ({ cls := "VotingHuts", name := "setAsks", desc := "(I)I" } : Jvm.MethodName) ({ cls := "VotingHuts", name := "setAsks", desc := "(I)I" } : Jvm.MethodName)) ∈ lw_all := lw_g (lw_at lw_m9 58 rfl) rfl
theorem q2111 : (Jvm.Cond.code ({ cls := "VotingHuts", name := "setAsks", desc := "(I)I" } : Jvm.MethodName) prog_1_method_81_code (3 : Nat) (Option.some Jvm.ClassFile.FieldType.int)) ∈ lw_all := lw_g (lw_at lw_m9 59 rfl) rfl
theorem q2112 : (Jvm.Cond.constantLong "VotingHuts" (417 : Nat) (5 : Int64)) ∈ lw_all := lw_g (lw_at lw_m9 60 rfl) rfl
theorem q2117 : (Jvm.Cond.instanceMethod ({ cls := "VotingHuts", name := "drop", desc := "(I)I" } : Jvm.MethodName)) ∈ lw_all := lw_g (lw_at lw_m9 65 rfl) rfl
theorem q2118 : (Jvm.Cond.selects "VotingHuts" ({ cls := "VotingHuts", name := "drop", desc := "(I)I" } : Jvm.MethodName) ({ cls := "VotingHuts", name := "drop", desc := "(I)I" } : Jvm.MethodName)) ∈ lw_all := lw_g (lw_at lw_m9 66 rfl) rfl
theorem q2119 : (Jvm.Cond.code ({ cls := "VotingHuts", name := "drop", desc := "(I)I" } : Jvm.MethodName) prog_1_method_82_code (2 : Nat) (Option.some Jvm.ClassFile.FieldType.int)) ∈ lw_all := lw_g (lw_at lw_m9 67 rfl) rfl
theorem q2120 : (Jvm.Cond.methodLink "VotingHuts" (419 : Nat) ({ cls := "VotingHuts$World", name := "drops", desc := "(I)V" } : Jvm.MethodName)) ∈ lw_all := lw_g (lw_at lw_m9 68 rfl) rfl
theorem q2125 : (Jvm.Cond.instanceMethod ({ cls := "VotingHuts", name := "undo", desc := "()I" } : Jvm.MethodName)) ∈ lw_all := lw_g (lw_at lw_m9 73 rfl) rfl
theorem q2126 : (Jvm.Cond.selects "VotingHuts" ({ cls := "VotingHuts", name := "undo", desc := "()I" } : Jvm.MethodName) ({ cls := "VotingHuts", name := "undo", desc := "()I" } : Jvm.MethodName)) ∈ lw_all := lw_g (lw_at lw_m9 74 rfl) rfl
theorem q2127 : (Jvm.Cond.code ({ cls := "VotingHuts", name := "undo", desc := "()I" } : Jvm.MethodName) prog_1_method_83_code (1 : Nat) (Option.some Jvm.ClassFile.FieldType.int)) ∈ lw_all := lw_g (lw_at lw_m9 75 rfl) rfl
theorem q2128 : (Jvm.Cond.methodLink "VotingHuts" (422 : Nat) ({ cls := "java/util/ArrayDeque", name := "isEmpty", desc := "()Z" } : Jvm.MethodName)) ∈ lw_all := lw_g (lw_at lw_m9 76 rfl) rfl
theorem q2132 : (Jvm.Cond.methodLink "VotingHuts" (425 : Nat) ({ cls := "java/util/ArrayDeque", name := "removeLast", desc := "()Ljava/lang/Object;" } : Jvm.MethodName)) ∈ lw_all := lw_g (lw_at lw_m9 80 rfl) rfl
theorem q2147 : (Jvm.Cond.instanceMethod ({ cls := "VotingHuts", name := "save", desc := "(I)I" } : Jvm.MethodName)) ∈ lw_all := lw_g (lw_at lw_m9 95 rfl) rfl
theorem q2148 : (Jvm.Cond.selects "VotingHuts" ({ cls := "VotingHuts", name := "save", desc := "(I)I" } : Jvm.MethodName) ({ cls := "VotingHuts", name := "save", desc := "(I)I" } : Jvm.MethodName)) ∈ lw_all := lw_g (lw_at lw_m9 96 rfl) rfl
theorem q2149 : (Jvm.Cond.code ({ cls := "VotingHuts", name := "save", desc := "(I)I" } : Jvm.MethodName) prog_1_method_85_code (3 : Nat) (Option.some Jvm.ClassFile.FieldType.int)) ∈ lw_all := lw_g (lw_at lw_m9 97 rfl) rfl
theorem q2154 : (Jvm.Cond.instanceMethod ({ cls := "VotingHuts", name := "restore", desc := "(I)I" } : Jvm.MethodName)) ∈ lw_all := lw_g (lw_at lw_m9 102 rfl) rfl
theorem q2155 : (Jvm.Cond.selects "VotingHuts" ({ cls := "VotingHuts", name := "restore", desc := "(I)I" } : Jvm.MethodName) ({ cls := "VotingHuts", name := "restore", desc := "(I)I" } : Jvm.MethodName)) ∈ lw_all := lw_g (lw_at lw_m9 103 rfl) rfl
theorem q2156 : (Jvm.Cond.code ({ cls := "VotingHuts", name := "restore", desc := "(I)I" } : Jvm.MethodName) prog_1_method_86_code (2 : Nat) (Option.some Jvm.ClassFile.FieldType.int)) ∈ lw_all := lw_g (lw_at lw_m9 104 rfl) rfl
theorem q2921 : (Jvm.Cond.castable "VotingHuts" "java/lang/Object") ∈ lw_tbl := lw_at lw_m12 149 rfl
theorem in_X1 : ∀ w ∈ wsX10, w ∈ lw_all := lw_in wsX10 [243, 245, 247, 249, 251, 253, 255, 257] (by decide +kernel) (by decide +kernel)
/-! VotingHuts$Parser -/
set_option maxRecDepth 100000
def RX3 : String := "VotingHuts$Parser"
def TX3 : u_T := fun k => match k with
  | 0 => ("VotingHuts$Parser", "length", "I", true)
  | 1 => ("VotingHuts$Parser", "next", "I", false)
  | 2 => ("VotingHuts$Parser", "begin", "I", false)
  | 3 => ("VotingHuts$Parser", "sort", "LVotingHuts$Sort;", false)
  | 4 => ("VotingHuts$Parser", "word", "Ljava/lang/String;", false)
  | 5 => ("VotingHuts$Parser", "made", "LVotingHuts$World;", false)
  | _ => ("VotingHuts$Parser", "this$0", "LVotingHuts;", true)
def tyX3 : Nat → FieldType := fun k => match k with
  | 0 => .int
  | 1 => .int
  | 2 => .int
  | 3 => .object "VotingHuts$Sort"
  | 4 => .object "java/lang/String"
  | 5 => .object "VotingHuts$World"
  | _ => .object "VotingHuts"
abbrev wsX30 : List Cond := u_ws RX3 TX3 7
theorem nmX3 : ∀ a, a < 7 → ∀ b, b < 7 → a ≠ b → (TX3 a).2.1 ≠ (TX3 b).2.1 := by decide +kernel
theorem tyX3_ok : ∀ k, k < 7 → parseFieldDescriptor (TX3 k).2.2.1 = some (tyX3 k) := by decide +kernel
abbrev cX3_init : ByteArray := prog_6_method_1_code
def yX3_init : MethodName := ⟨RX3, "<init>", "(LVotingHuts;I)V"⟩
def dkwX3_init_1 : List UInt8 := [181, 0, 30, 42, 182, 0, 34, 177]
abbrev dktX3_init_1 : List UInt8 := dkwX3_init_1 ++ []
def dkwX3_init_0 : List UInt8 := [42, 43, 181, 0, 3, 42, 183, 0, 9, 42, 178, 0, 15, 181, 0, 21, 42, 18, 24, 181, 0, 26, 42, 28]
abbrev dktX3_init_0 : List UInt8 := dkwX3_init_0 ++ dktX3_init_1
theorem dksX3_init_0 : cX3_init.data.toList.drop 0 = dktX3_init_0 := by decide +kernel
theorem dksX3_init_1 : cX3_init.data.toList.drop 24 = dktX3_init_1 := dk_seg dksX3_init_0 24 rfl rfl
theorem dX3_init_0 : decode cX3_init 0 = .ok (.aload_n 0, 1) := dk_42 (dk_at dksX3_init_0 0 rfl rfl)
theorem dX3_init_1 : decode cX3_init 1 = .ok (.aload_n 1, 1) := dk_43 (dk_at dksX3_init_0 1 rfl rfl)
theorem dX3_init_2 : decode cX3_init 2 = .ok (.putfield 3, 3) := dk_181 0 3 (dk_at dksX3_init_0 2 rfl rfl)
theorem dX3_init_5 : decode cX3_init 5 = .ok (.aload_n 0, 1) := dk_42 (dk_at dksX3_init_0 5 rfl rfl)
theorem dX3_init_6 : decode cX3_init 6 = .ok (.invokespecial 9, 3) := dk_183 0 9 (dk_at dksX3_init_0 6 rfl rfl)
theorem dX3_init_9 : decode cX3_init 9 = .ok (.aload_n 0, 1) := dk_42 (dk_at dksX3_init_0 9 rfl rfl)
theorem dX3_init_10 : decode cX3_init 10 = .ok (.getstatic 15, 3) := dk_178 0 15 (dk_at dksX3_init_0 10 rfl rfl)
theorem dX3_init_13 : decode cX3_init 13 = .ok (.putfield 21, 3) := dk_181 0 21 (dk_at dksX3_init_0 13 rfl rfl)
theorem dX3_init_16 : decode cX3_init 16 = .ok (.aload_n 0, 1) := dk_42 (dk_at dksX3_init_0 16 rfl rfl)
theorem dX3_init_17 : decode cX3_init 17 = .ok (.ldc 24, 2) := dk_18 24 (dk_at dksX3_init_0 17 rfl rfl)
theorem dX3_init_19 : decode cX3_init 19 = .ok (.putfield 26, 3) := dk_181 0 26 (dk_at dksX3_init_0 19 rfl rfl)
theorem dX3_init_22 : decode cX3_init 22 = .ok (.aload_n 0, 1) := dk_42 (dk_at dksX3_init_0 22 rfl rfl)
theorem dX3_init_23 : decode cX3_init 23 = .ok (.iload_n 2, 1) := dk_28 (dk_at dksX3_init_0 23 rfl rfl)
theorem dX3_init_24 : decode cX3_init 24 = .ok (.putfield 30, 3) := dk_181 0 30 (dk_at dksX3_init_1 0 rfl rfl)
theorem dX3_init_27 : decode cX3_init 27 = .ok (.aload_n 0, 1) := dk_42 (dk_at dksX3_init_1 3 rfl rfl)
theorem dX3_init_28 : decode cX3_init 28 = .ok (.invokevirtual 34, 3) := dk_182 0 34 (dk_at dksX3_init_1 4 rfl rfl)
theorem dX3_init_31 : decode cX3_init 31 = .ok (.return_, 1) := dk_177 (dk_at dksX3_init_1 7 rfl rfl)
abbrev cX3_step : ByteArray := prog_6_method_4_code
def yX3_step : MethodName := ⟨RX3, "step", "()V"⟩
def dkwX3_step_11 : List UInt8 := [4, 96, 181, 0, 52, 177]
abbrev dktX3_step_11 : List UInt8 := dkwX3_step_11 ++ []
def dkwX3_step_10 : List UInt8 := [42, 27, 16, 59, 160, 0, 9, 178, 0, 87, 167, 0, 6, 178, 0, 66, 181, 0, 21, 42, 89, 180, 0, 52]
abbrev dktX3_step_10 : List UInt8 := dkwX3_step_10 ++ dktX3_step_11
def dkwX3_step_9 : List UInt8 := [180, 0, 41, 100, 16, 12, 163, 0, 9, 178, 0, 84, 167, 0, 6, 178, 0, 66, 181, 0, 21, 167, 0, 32]
abbrev dktX3_step_9 : List UInt8 := dkwX3_step_9 ++ dktX3_step_10
def dkwX3_step_8 : List UInt8 := [184, 0, 48, 153, 0, 45, 42, 42, 16, 48, 16, 57, 182, 0, 59, 181, 0, 52, 42, 42, 180, 0, 52, 42]
abbrev dktX3_step_8 : List UInt8 := dkwX3_step_8 ++ dktX3_step_9
def dkwX3_step_7 : List UInt8 := [167, 255, 224, 42, 44, 182, 0, 76, 181, 0, 26, 167, 0, 88, 27, 133, 20, 0, 80, 20, 0, 82]
abbrev dktX3_step_7 : List UInt8 := dkwX3_step_7 ++ dktX3_step_8
def dkwX3_step_6 : List UInt8 := [42, 180, 0, 21, 178, 0, 63, 166, 0, 20, 44, 42, 29, 182, 0, 44, 146, 182, 0, 72, 87, 132, 3, 1]
abbrev dktX3_step_6 : List UInt8 := dkwX3_step_6 ++ dktX3_step_7
def dkwX3_step_5 : List UInt8 := [181, 0, 21, 187, 0, 69, 89, 183, 0, 71, 77, 42, 180, 0, 41, 62, 29, 42, 180, 0, 52, 162, 0, 30]
abbrev dktX3_step_5 : List UInt8 := dkwX3_step_5 ++ dktX3_step_6
def dkwX3_step_4 : List UInt8 := [180, 0, 52, 42, 180, 0, 41, 100, 16, 6, 163, 0, 9, 178, 0, 63, 167, 0, 6, 178, 0, 66]
abbrev dktX3_step_4 : List UInt8 := dkwX3_step_4 ++ dktX3_step_5
def dkwX3_step_3 : List UInt8 := [20, 0, 57, 184, 0, 48, 153, 0, 101, 42, 42, 16, 97, 16, 122, 182, 0, 59, 181, 0, 52, 42, 42]
abbrev dktX3_step_3 : List UInt8 := dkwX3_step_3 ++ dktX3_step_4
def dkwX3_step_2 : List UInt8 := [182, 0, 44, 60, 27, 2, 160, 0, 13, 42, 178, 0, 15, 181, 0, 21, 167, 0, 200, 27, 133, 20, 0, 55]
abbrev dktX3_step_2 : List UInt8 := dkwX3_step_2 ++ dktX3_step_3
def dkwX3_step_1 : List UInt8 := [167, 255, 233, 42, 42, 180, 0, 52, 181, 0, 41, 42, 18, 24, 181, 0, 26, 42, 42, 180, 0, 41]
abbrev dktX3_step_1 : List UInt8 := dkwX3_step_1 ++ dktX3_step_2
def dkwX3_step_0 : List UInt8 := [42, 42, 180, 0, 52, 182, 0, 44, 16, 32, 160, 0, 16, 42, 89, 180, 0, 52, 4, 96, 181, 0, 52]
abbrev dktX3_step_0 : List UInt8 := dkwX3_step_0 ++ dktX3_step_1
theorem dksX3_step_0 : cX3_step.data.toList.drop 0 = dktX3_step_0 := by decide +kernel
theorem dksX3_step_1 : cX3_step.data.toList.drop 23 = dktX3_step_1 := dk_seg dksX3_step_0 23 rfl rfl
theorem dksX3_step_2 : cX3_step.data.toList.drop 45 = dktX3_step_2 := dk_seg dksX3_step_1 22 rfl rfl
theorem dksX3_step_3 : cX3_step.data.toList.drop 69 = dktX3_step_3 := dk_seg dksX3_step_2 24 rfl rfl
theorem dksX3_step_4 : cX3_step.data.toList.drop 92 = dktX3_step_4 := dk_seg dksX3_step_3 23 rfl rfl
theorem dksX3_step_5 : cX3_step.data.toList.drop 114 = dktX3_step_5 := dk_seg dksX3_step_4 22 rfl rfl
theorem dksX3_step_6 : cX3_step.data.toList.drop 138 = dktX3_step_6 := dk_seg dksX3_step_5 24 rfl rfl
theorem dksX3_step_7 : cX3_step.data.toList.drop 162 = dktX3_step_7 := dk_seg dksX3_step_6 24 rfl rfl
theorem dksX3_step_8 : cX3_step.data.toList.drop 184 = dktX3_step_8 := dk_seg dksX3_step_7 22 rfl rfl
theorem dksX3_step_9 : cX3_step.data.toList.drop 208 = dktX3_step_9 := dk_seg dksX3_step_8 24 rfl rfl
theorem dksX3_step_10 : cX3_step.data.toList.drop 232 = dktX3_step_10 := dk_seg dksX3_step_9 24 rfl rfl
theorem dksX3_step_11 : cX3_step.data.toList.drop 256 = dktX3_step_11 := dk_seg dksX3_step_10 24 rfl rfl
theorem dX3_step_0 : decode cX3_step 0 = .ok (.aload_n 0, 1) := dk_42 (dk_at dksX3_step_0 0 rfl rfl)
theorem dX3_step_1 : decode cX3_step 1 = .ok (.aload_n 0, 1) := dk_42 (dk_at dksX3_step_0 1 rfl rfl)
theorem dX3_step_2 : decode cX3_step 2 = .ok (.getfield 52, 3) := dk_180 0 52 (dk_at dksX3_step_0 2 rfl rfl)
theorem dX3_step_5 : decode cX3_step 5 = .ok (.invokevirtual 44, 3) := dk_182 0 44 (dk_at dksX3_step_0 5 rfl rfl)
theorem dX3_step_8 : decode cX3_step 8 = .ok (.bipush 32, 2) := dk_16 32 (dk_at dksX3_step_0 8 rfl rfl)
theorem dX3_step_10 : decode cX3_step 10 = .ok (.if_icmp .ne 16, 3) := dk_160 0 16 (dk_at dksX3_step_0 10 rfl rfl)
theorem dX3_step_13 : decode cX3_step 13 = .ok (.aload_n 0, 1) := dk_42 (dk_at dksX3_step_0 13 rfl rfl)
theorem dX3_step_14 : decode cX3_step 14 = .ok (.dup, 1) := dk_89 (dk_at dksX3_step_0 14 rfl rfl)
theorem dX3_step_15 : decode cX3_step 15 = .ok (.getfield 52, 3) := dk_180 0 52 (dk_at dksX3_step_0 15 rfl rfl)
theorem dX3_step_18 : decode cX3_step 18 = .ok (.iconst 1, 1) := dk_4 (dk_at dksX3_step_0 18 rfl rfl)
theorem dX3_step_19 : decode cX3_step 19 = .ok (.iadd, 1) := dk_96 (dk_at dksX3_step_0 19 rfl rfl)
theorem dX3_step_20 : decode cX3_step 20 = .ok (.putfield 52, 3) := dk_181 0 52 (dk_at dksX3_step_0 20 rfl rfl)
theorem dX3_step_23 : decode cX3_step 23 = .ok (.goto (-23), 3) := dk_167 255 233 (dk_at dksX3_step_1 0 rfl rfl)
theorem dX3_step_26 : decode cX3_step 26 = .ok (.aload_n 0, 1) := dk_42 (dk_at dksX3_step_1 3 rfl rfl)
theorem dX3_step_27 : decode cX3_step 27 = .ok (.aload_n 0, 1) := dk_42 (dk_at dksX3_step_1 4 rfl rfl)
theorem dX3_step_28 : decode cX3_step 28 = .ok (.getfield 52, 3) := dk_180 0 52 (dk_at dksX3_step_1 5 rfl rfl)
theorem dX3_step_31 : decode cX3_step 31 = .ok (.putfield 41, 3) := dk_181 0 41 (dk_at dksX3_step_1 8 rfl rfl)
theorem dX3_step_34 : decode cX3_step 34 = .ok (.aload_n 0, 1) := dk_42 (dk_at dksX3_step_1 11 rfl rfl)
theorem dX3_step_35 : decode cX3_step 35 = .ok (.ldc 24, 2) := dk_18 24 (dk_at dksX3_step_1 12 rfl rfl)
theorem dX3_step_37 : decode cX3_step 37 = .ok (.putfield 26, 3) := dk_181 0 26 (dk_at dksX3_step_1 14 rfl rfl)
theorem dX3_step_40 : decode cX3_step 40 = .ok (.aload_n 0, 1) := dk_42 (dk_at dksX3_step_1 17 rfl rfl)
theorem dX3_step_41 : decode cX3_step 41 = .ok (.aload_n 0, 1) := dk_42 (dk_at dksX3_step_1 18 rfl rfl)
theorem dX3_step_42 : decode cX3_step 42 = .ok (.getfield 41, 3) := dk_180 0 41 (dk_at dksX3_step_1 19 rfl rfl)
theorem dX3_step_45 : decode cX3_step 45 = .ok (.invokevirtual 44, 3) := dk_182 0 44 (dk_at dksX3_step_2 0 rfl rfl)
theorem dX3_step_48 : decode cX3_step 48 = .ok (.istore_n 1, 1) := dk_60 (dk_at dksX3_step_2 3 rfl rfl)
theorem dX3_step_49 : decode cX3_step 49 = .ok (.iload_n 1, 1) := dk_27 (dk_at dksX3_step_2 4 rfl rfl)
theorem dX3_step_50 : decode cX3_step 50 = .ok (.iconst (-1), 1) := dk_2 (dk_at dksX3_step_2 5 rfl rfl)
theorem dX3_step_51 : decode cX3_step 51 = .ok (.if_icmp .ne 13, 3) := dk_160 0 13 (dk_at dksX3_step_2 6 rfl rfl)
theorem dX3_step_54 : decode cX3_step 54 = .ok (.aload_n 0, 1) := dk_42 (dk_at dksX3_step_2 9 rfl rfl)
theorem dX3_step_55 : decode cX3_step 55 = .ok (.getstatic 15, 3) := dk_178 0 15 (dk_at dksX3_step_2 10 rfl rfl)
theorem dX3_step_58 : decode cX3_step 58 = .ok (.putfield 21, 3) := dk_181 0 21 (dk_at dksX3_step_2 13 rfl rfl)
theorem dX3_step_61 : decode cX3_step 61 = .ok (.goto 200, 3) := dk_167 0 200 (dk_at dksX3_step_2 16 rfl rfl)
theorem dX3_step_64 : decode cX3_step 64 = .ok (.iload_n 1, 1) := dk_27 (dk_at dksX3_step_2 19 rfl rfl)
theorem dX3_step_65 : decode cX3_step 65 = .ok (.i2l, 1) := dk_133 (dk_at dksX3_step_2 20 rfl rfl)
theorem dX3_step_66 : decode cX3_step 66 = .ok (.ldc2_w 55, 3) := dk_20 0 55 (dk_at dksX3_step_2 21 rfl rfl)
theorem dX3_step_69 : decode cX3_step 69 = .ok (.ldc2_w 57, 3) := dk_20 0 57 (dk_at dksX3_step_3 0 rfl rfl)
theorem dX3_step_72 : decode cX3_step 72 = .ok (.invokestatic 48, 3) := dk_184 0 48 (dk_at dksX3_step_3 3 rfl rfl)
theorem dX3_step_75 : decode cX3_step 75 = .ok (.ifCond .eq 101, 3) := dk_153 0 101 (dk_at dksX3_step_3 6 rfl rfl)
theorem dX3_step_78 : decode cX3_step 78 = .ok (.aload_n 0, 1) := dk_42 (dk_at dksX3_step_3 9 rfl rfl)
theorem dX3_step_79 : decode cX3_step 79 = .ok (.aload_n 0, 1) := dk_42 (dk_at dksX3_step_3 10 rfl rfl)
theorem dX3_step_80 : decode cX3_step 80 = .ok (.bipush 97, 2) := dk_16 97 (dk_at dksX3_step_3 11 rfl rfl)
theorem dX3_step_82 : decode cX3_step 82 = .ok (.bipush 122, 2) := dk_16 122 (dk_at dksX3_step_3 13 rfl rfl)
theorem dX3_step_84 : decode cX3_step 84 = .ok (.invokevirtual 59, 3) := dk_182 0 59 (dk_at dksX3_step_3 15 rfl rfl)
theorem dX3_step_87 : decode cX3_step 87 = .ok (.putfield 52, 3) := dk_181 0 52 (dk_at dksX3_step_3 18 rfl rfl)
theorem dX3_step_90 : decode cX3_step 90 = .ok (.aload_n 0, 1) := dk_42 (dk_at dksX3_step_3 21 rfl rfl)
theorem dX3_step_91 : decode cX3_step 91 = .ok (.aload_n 0, 1) := dk_42 (dk_at dksX3_step_3 22 rfl rfl)
theorem dX3_step_92 : decode cX3_step 92 = .ok (.getfield 52, 3) := dk_180 0 52 (dk_at dksX3_step_4 0 rfl rfl)
theorem dX3_step_95 : decode cX3_step 95 = .ok (.aload_n 0, 1) := dk_42 (dk_at dksX3_step_4 3 rfl rfl)
theorem dX3_step_96 : decode cX3_step 96 = .ok (.getfield 41, 3) := dk_180 0 41 (dk_at dksX3_step_4 4 rfl rfl)
theorem dX3_step_99 : decode cX3_step 99 = .ok (.isub, 1) := dk_100 (dk_at dksX3_step_4 7 rfl rfl)
theorem dX3_step_100 : decode cX3_step 100 = .ok (.bipush 6, 2) := dk_16 6 (dk_at dksX3_step_4 8 rfl rfl)
theorem dX3_step_102 : decode cX3_step 102 = .ok (.if_icmp .gt 9, 3) := dk_163 0 9 (dk_at dksX3_step_4 10 rfl rfl)
theorem dX3_step_105 : decode cX3_step 105 = .ok (.getstatic 63, 3) := dk_178 0 63 (dk_at dksX3_step_4 13 rfl rfl)
theorem dX3_step_108 : decode cX3_step 108 = .ok (.goto 6, 3) := dk_167 0 6 (dk_at dksX3_step_4 16 rfl rfl)
theorem dX3_step_111 : decode cX3_step 111 = .ok (.getstatic 66, 3) := dk_178 0 66 (dk_at dksX3_step_4 19 rfl rfl)
theorem dX3_step_114 : decode cX3_step 114 = .ok (.putfield 21, 3) := dk_181 0 21 (dk_at dksX3_step_5 0 rfl rfl)
theorem dX3_step_117 : decode cX3_step 117 = .ok (.new 69, 3) := dk_187 0 69 (dk_at dksX3_step_5 3 rfl rfl)
theorem dX3_step_120 : decode cX3_step 120 = .ok (.dup, 1) := dk_89 (dk_at dksX3_step_5 6 rfl rfl)
theorem dX3_step_121 : decode cX3_step 121 = .ok (.invokespecial 71, 3) := dk_183 0 71 (dk_at dksX3_step_5 7 rfl rfl)
theorem dX3_step_124 : decode cX3_step 124 = .ok (.astore_n 2, 1) := dk_77 (dk_at dksX3_step_5 10 rfl rfl)
theorem dX3_step_125 : decode cX3_step 125 = .ok (.aload_n 0, 1) := dk_42 (dk_at dksX3_step_5 11 rfl rfl)
theorem dX3_step_126 : decode cX3_step 126 = .ok (.getfield 41, 3) := dk_180 0 41 (dk_at dksX3_step_5 12 rfl rfl)
theorem dX3_step_129 : decode cX3_step 129 = .ok (.istore_n 3, 1) := dk_62 (dk_at dksX3_step_5 15 rfl rfl)
theorem dX3_step_130 : decode cX3_step 130 = .ok (.iload_n 3, 1) := dk_29 (dk_at dksX3_step_5 16 rfl rfl)
theorem dX3_step_131 : decode cX3_step 131 = .ok (.aload_n 0, 1) := dk_42 (dk_at dksX3_step_5 17 rfl rfl)
theorem dX3_step_132 : decode cX3_step 132 = .ok (.getfield 52, 3) := dk_180 0 52 (dk_at dksX3_step_5 18 rfl rfl)
theorem dX3_step_135 : decode cX3_step 135 = .ok (.if_icmp .ge 30, 3) := dk_162 0 30 (dk_at dksX3_step_5 21 rfl rfl)
theorem dX3_step_138 : decode cX3_step 138 = .ok (.aload_n 0, 1) := dk_42 (dk_at dksX3_step_6 0 rfl rfl)
theorem dX3_step_139 : decode cX3_step 139 = .ok (.getfield 21, 3) := dk_180 0 21 (dk_at dksX3_step_6 1 rfl rfl)
theorem dX3_step_142 : decode cX3_step 142 = .ok (.getstatic 63, 3) := dk_178 0 63 (dk_at dksX3_step_6 4 rfl rfl)
theorem dX3_step_145 : decode cX3_step 145 = .ok (.if_acmp .ne 20, 3) := dk_166 0 20 (dk_at dksX3_step_6 7 rfl rfl)
theorem dX3_step_148 : decode cX3_step 148 = .ok (.aload_n 2, 1) := dk_44 (dk_at dksX3_step_6 10 rfl rfl)
theorem dX3_step_149 : decode cX3_step 149 = .ok (.aload_n 0, 1) := dk_42 (dk_at dksX3_step_6 11 rfl rfl)
theorem dX3_step_150 : decode cX3_step 150 = .ok (.iload_n 3, 1) := dk_29 (dk_at dksX3_step_6 12 rfl rfl)
theorem dX3_step_151 : decode cX3_step 151 = .ok (.invokevirtual 44, 3) := dk_182 0 44 (dk_at dksX3_step_6 13 rfl rfl)
theorem dX3_step_154 : decode cX3_step 154 = .ok (.i2c, 1) := dk_146 (dk_at dksX3_step_6 16 rfl rfl)
theorem dX3_step_155 : decode cX3_step 155 = .ok (.invokevirtual 72, 3) := dk_182 0 72 (dk_at dksX3_step_6 17 rfl rfl)
theorem dX3_step_158 : decode cX3_step 158 = .ok (.pop, 1) := dk_87 (dk_at dksX3_step_6 20 rfl rfl)
theorem dX3_step_159 : decode cX3_step 159 = .ok (.iinc 3 1, 3) := dk_132 3 1 (dk_at dksX3_step_6 21 rfl rfl)
theorem dX3_step_162 : decode cX3_step 162 = .ok (.goto (-32), 3) := dk_167 255 224 (dk_at dksX3_step_7 0 rfl rfl)
theorem dX3_step_165 : decode cX3_step 165 = .ok (.aload_n 0, 1) := dk_42 (dk_at dksX3_step_7 3 rfl rfl)
theorem dX3_step_166 : decode cX3_step 166 = .ok (.aload_n 2, 1) := dk_44 (dk_at dksX3_step_7 4 rfl rfl)
theorem dX3_step_167 : decode cX3_step 167 = .ok (.invokevirtual 76, 3) := dk_182 0 76 (dk_at dksX3_step_7 5 rfl rfl)
theorem dX3_step_170 : decode cX3_step 170 = .ok (.putfield 26, 3) := dk_181 0 26 (dk_at dksX3_step_7 8 rfl rfl)
theorem dX3_step_173 : decode cX3_step 173 = .ok (.goto 88, 3) := dk_167 0 88 (dk_at dksX3_step_7 11 rfl rfl)
theorem dX3_step_176 : decode cX3_step 176 = .ok (.iload_n 1, 1) := dk_27 (dk_at dksX3_step_7 14 rfl rfl)
theorem dX3_step_177 : decode cX3_step 177 = .ok (.i2l, 1) := dk_133 (dk_at dksX3_step_7 15 rfl rfl)
theorem dX3_step_178 : decode cX3_step 178 = .ok (.ldc2_w 80, 3) := dk_20 0 80 (dk_at dksX3_step_7 16 rfl rfl)
theorem dX3_step_181 : decode cX3_step 181 = .ok (.ldc2_w 82, 3) := dk_20 0 82 (dk_at dksX3_step_7 19 rfl rfl)
theorem dX3_step_184 : decode cX3_step 184 = .ok (.invokestatic 48, 3) := dk_184 0 48 (dk_at dksX3_step_8 0 rfl rfl)
theorem dX3_step_187 : decode cX3_step 187 = .ok (.ifCond .eq 45, 3) := dk_153 0 45 (dk_at dksX3_step_8 3 rfl rfl)
theorem dX3_step_190 : decode cX3_step 190 = .ok (.aload_n 0, 1) := dk_42 (dk_at dksX3_step_8 6 rfl rfl)
theorem dX3_step_191 : decode cX3_step 191 = .ok (.aload_n 0, 1) := dk_42 (dk_at dksX3_step_8 7 rfl rfl)
theorem dX3_step_192 : decode cX3_step 192 = .ok (.bipush 48, 2) := dk_16 48 (dk_at dksX3_step_8 8 rfl rfl)
theorem dX3_step_194 : decode cX3_step 194 = .ok (.bipush 57, 2) := dk_16 57 (dk_at dksX3_step_8 10 rfl rfl)
theorem dX3_step_196 : decode cX3_step 196 = .ok (.invokevirtual 59, 3) := dk_182 0 59 (dk_at dksX3_step_8 12 rfl rfl)
theorem dX3_step_199 : decode cX3_step 199 = .ok (.putfield 52, 3) := dk_181 0 52 (dk_at dksX3_step_8 15 rfl rfl)
theorem dX3_step_202 : decode cX3_step 202 = .ok (.aload_n 0, 1) := dk_42 (dk_at dksX3_step_8 18 rfl rfl)
theorem dX3_step_203 : decode cX3_step 203 = .ok (.aload_n 0, 1) := dk_42 (dk_at dksX3_step_8 19 rfl rfl)
theorem dX3_step_204 : decode cX3_step 204 = .ok (.getfield 52, 3) := dk_180 0 52 (dk_at dksX3_step_8 20 rfl rfl)
theorem dX3_step_207 : decode cX3_step 207 = .ok (.aload_n 0, 1) := dk_42 (dk_at dksX3_step_8 23 rfl rfl)
theorem dX3_step_208 : decode cX3_step 208 = .ok (.getfield 41, 3) := dk_180 0 41 (dk_at dksX3_step_9 0 rfl rfl)
theorem dX3_step_211 : decode cX3_step 211 = .ok (.isub, 1) := dk_100 (dk_at dksX3_step_9 3 rfl rfl)
theorem dX3_step_212 : decode cX3_step 212 = .ok (.bipush 12, 2) := dk_16 12 (dk_at dksX3_step_9 4 rfl rfl)
theorem dX3_step_214 : decode cX3_step 214 = .ok (.if_icmp .gt 9, 3) := dk_163 0 9 (dk_at dksX3_step_9 6 rfl rfl)
theorem dX3_step_217 : decode cX3_step 217 = .ok (.getstatic 84, 3) := dk_178 0 84 (dk_at dksX3_step_9 9 rfl rfl)
theorem dX3_step_220 : decode cX3_step 220 = .ok (.goto 6, 3) := dk_167 0 6 (dk_at dksX3_step_9 12 rfl rfl)
theorem dX3_step_223 : decode cX3_step 223 = .ok (.getstatic 66, 3) := dk_178 0 66 (dk_at dksX3_step_9 15 rfl rfl)
theorem dX3_step_226 : decode cX3_step 226 = .ok (.putfield 21, 3) := dk_181 0 21 (dk_at dksX3_step_9 18 rfl rfl)
theorem dX3_step_229 : decode cX3_step 229 = .ok (.goto 32, 3) := dk_167 0 32 (dk_at dksX3_step_9 21 rfl rfl)
theorem dX3_step_232 : decode cX3_step 232 = .ok (.aload_n 0, 1) := dk_42 (dk_at dksX3_step_10 0 rfl rfl)
theorem dX3_step_233 : decode cX3_step 233 = .ok (.iload_n 1, 1) := dk_27 (dk_at dksX3_step_10 1 rfl rfl)
theorem dX3_step_234 : decode cX3_step 234 = .ok (.bipush 59, 2) := dk_16 59 (dk_at dksX3_step_10 2 rfl rfl)
theorem dX3_step_236 : decode cX3_step 236 = .ok (.if_icmp .ne 9, 3) := dk_160 0 9 (dk_at dksX3_step_10 4 rfl rfl)
theorem dX3_step_239 : decode cX3_step 239 = .ok (.getstatic 87, 3) := dk_178 0 87 (dk_at dksX3_step_10 7 rfl rfl)
theorem dX3_step_242 : decode cX3_step 242 = .ok (.goto 6, 3) := dk_167 0 6 (dk_at dksX3_step_10 10 rfl rfl)
theorem dX3_step_245 : decode cX3_step 245 = .ok (.getstatic 66, 3) := dk_178 0 66 (dk_at dksX3_step_10 13 rfl rfl)
theorem dX3_step_248 : decode cX3_step 248 = .ok (.putfield 21, 3) := dk_181 0 21 (dk_at dksX3_step_10 16 rfl rfl)
theorem dX3_step_251 : decode cX3_step 251 = .ok (.aload_n 0, 1) := dk_42 (dk_at dksX3_step_10 19 rfl rfl)
theorem dX3_step_252 : decode cX3_step 252 = .ok (.dup, 1) := dk_89 (dk_at dksX3_step_10 20 rfl rfl)
theorem dX3_step_253 : decode cX3_step 253 = .ok (.getfield 52, 3) := dk_180 0 52 (dk_at dksX3_step_10 21 rfl rfl)
theorem dX3_step_256 : decode cX3_step 256 = .ok (.iconst 1, 1) := dk_4 (dk_at dksX3_step_11 0 rfl rfl)
theorem dX3_step_257 : decode cX3_step 257 = .ok (.iadd, 1) := dk_96 (dk_at dksX3_step_11 1 rfl rfl)
theorem dX3_step_258 : decode cX3_step 258 = .ok (.putfield 52, 3) := dk_181 0 52 (dk_at dksX3_step_11 2 rfl rfl)
theorem dX3_step_261 : decode cX3_step 261 = .ok (.return_, 1) := dk_177 (dk_at dksX3_step_11 5 rfl rfl)
abbrev cX3_at : ByteArray := prog_6_method_2_code
def yX3_at : MethodName := ⟨RX3, "at", "(I)I"⟩
def dkwX3_at_1 : List UInt8 := [2, 172]
abbrev dktX3_at_1 : List UInt8 := dkwX3_at_1 ++ []
def dkwX3_at_0 : List UInt8 := [27, 42, 180, 0, 30, 162, 0, 19, 42, 180, 0, 3, 180, 0, 37, 27, 51, 17, 0, 255, 126, 167, 0, 4]
abbrev dktX3_at_0 : List UInt8 := dkwX3_at_0 ++ dktX3_at_1
theorem dksX3_at_0 : cX3_at.data.toList.drop 0 = dktX3_at_0 := by decide +kernel
theorem dksX3_at_1 : cX3_at.data.toList.drop 24 = dktX3_at_1 := dk_seg dksX3_at_0 24 rfl rfl
theorem dX3_at_0 : decode cX3_at 0 = .ok (.iload_n 1, 1) := dk_27 (dk_at dksX3_at_0 0 rfl rfl)
theorem dX3_at_1 : decode cX3_at 1 = .ok (.aload_n 0, 1) := dk_42 (dk_at dksX3_at_0 1 rfl rfl)
theorem dX3_at_2 : decode cX3_at 2 = .ok (.getfield 30, 3) := dk_180 0 30 (dk_at dksX3_at_0 2 rfl rfl)
theorem dX3_at_5 : decode cX3_at 5 = .ok (.if_icmp .ge 19, 3) := dk_162 0 19 (dk_at dksX3_at_0 5 rfl rfl)
theorem dX3_at_8 : decode cX3_at 8 = .ok (.aload_n 0, 1) := dk_42 (dk_at dksX3_at_0 8 rfl rfl)
theorem dX3_at_9 : decode cX3_at 9 = .ok (.getfield 3, 3) := dk_180 0 3 (dk_at dksX3_at_0 9 rfl rfl)
theorem dX3_at_12 : decode cX3_at 12 = .ok (.getfield 37, 3) := dk_180 0 37 (dk_at dksX3_at_0 12 rfl rfl)
theorem dX3_at_15 : decode cX3_at 15 = .ok (.iload_n 1, 1) := dk_27 (dk_at dksX3_at_0 15 rfl rfl)
theorem dX3_at_16 : decode cX3_at 16 = .ok (.baload, 1) := dk_51 (dk_at dksX3_at_0 16 rfl rfl)
theorem dX3_at_17 : decode cX3_at 17 = .ok (.sipush 255, 3) := dk_17 0 255 (dk_at dksX3_at_0 17 rfl rfl)
theorem dX3_at_20 : decode cX3_at 20 = .ok (.iand, 1) := dk_126 (dk_at dksX3_at_0 20 rfl rfl)
theorem dX3_at_21 : decode cX3_at 21 = .ok (.goto 4, 3) := dk_167 0 4 (dk_at dksX3_at_0 21 rfl rfl)
theorem dX3_at_24 : decode cX3_at 24 = .ok (.iconst (-1), 1) := dk_2 (dk_at dksX3_at_1 0 rfl rfl)
theorem dX3_at_25 : decode cX3_at 25 = .ok (.ireturn, 1) := dk_172 (dk_at dksX3_at_1 1 rfl rfl)
abbrev cX3_run : ByteArray := prog_6_method_3_code
def yX3_run : MethodName := ⟨RX3, "run", "(II)I"⟩
def dkwX3_run_1 : List UInt8 := [167, 255, 237, 29, 172]
abbrev dktX3_run_1 : List UInt8 := dkwX3_run_1 ++ []
def dkwX3_run_0 : List UInt8 := [42, 180, 0, 41, 62, 42, 29, 182, 0, 44, 133, 27, 133, 28, 133, 184, 0, 48, 153, 0, 9, 132, 3, 1]
abbrev dktX3_run_0 : List UInt8 := dkwX3_run_0 ++ dktX3_run_1
theorem dksX3_run_0 : cX3_run.data.toList.drop 0 = dktX3_run_0 := by decide +kernel
theorem dksX3_run_1 : cX3_run.data.toList.drop 24 = dktX3_run_1 := dk_seg dksX3_run_0 24 rfl rfl
theorem dX3_run_0 : decode cX3_run 0 = .ok (.aload_n 0, 1) := dk_42 (dk_at dksX3_run_0 0 rfl rfl)
theorem dX3_run_1 : decode cX3_run 1 = .ok (.getfield 41, 3) := dk_180 0 41 (dk_at dksX3_run_0 1 rfl rfl)
theorem dX3_run_4 : decode cX3_run 4 = .ok (.istore_n 3, 1) := dk_62 (dk_at dksX3_run_0 4 rfl rfl)
theorem dX3_run_5 : decode cX3_run 5 = .ok (.aload_n 0, 1) := dk_42 (dk_at dksX3_run_0 5 rfl rfl)
theorem dX3_run_6 : decode cX3_run 6 = .ok (.iload_n 3, 1) := dk_29 (dk_at dksX3_run_0 6 rfl rfl)
theorem dX3_run_7 : decode cX3_run 7 = .ok (.invokevirtual 44, 3) := dk_182 0 44 (dk_at dksX3_run_0 7 rfl rfl)
theorem dX3_run_10 : decode cX3_run 10 = .ok (.i2l, 1) := dk_133 (dk_at dksX3_run_0 10 rfl rfl)
theorem dX3_run_11 : decode cX3_run 11 = .ok (.iload_n 1, 1) := dk_27 (dk_at dksX3_run_0 11 rfl rfl)
theorem dX3_run_12 : decode cX3_run 12 = .ok (.i2l, 1) := dk_133 (dk_at dksX3_run_0 12 rfl rfl)
theorem dX3_run_13 : decode cX3_run 13 = .ok (.iload_n 2, 1) := dk_28 (dk_at dksX3_run_0 13 rfl rfl)
theorem dX3_run_14 : decode cX3_run 14 = .ok (.i2l, 1) := dk_133 (dk_at dksX3_run_0 14 rfl rfl)
theorem dX3_run_15 : decode cX3_run 15 = .ok (.invokestatic 48, 3) := dk_184 0 48 (dk_at dksX3_run_0 15 rfl rfl)
theorem dX3_run_18 : decode cX3_run 18 = .ok (.ifCond .eq 9, 3) := dk_153 0 9 (dk_at dksX3_run_0 18 rfl rfl)
theorem dX3_run_21 : decode cX3_run 21 = .ok (.iinc 3 1, 3) := dk_132 3 1 (dk_at dksX3_run_0 21 rfl rfl)
theorem dX3_run_24 : decode cX3_run 24 = .ok (.goto (-19), 3) := dk_167 255 237 (dk_at dksX3_run_1 0 rfl rfl)
theorem dX3_run_27 : decode cX3_run 27 = .ok (.iload_n 3, 1) := dk_29 (dk_at dksX3_run_1 3 rfl rfl)
theorem dX3_run_28 : decode cX3_run 28 = .ok (.ireturn, 1) := dk_172 (dk_at dksX3_run_1 4 rfl rfl)
abbrev cX3_parse : ByteArray := prog_6_method_16_code
def yX3_parse : MethodName := ⟨RX3, "parse", "()LVotingHuts$World;"⟩
def dkwX3_parse_3 : List UInt8 := [180, 0, 21, 178, 0, 15, 166, 0, 7, 4, 167, 0, 4, 3, 4, 182, 0, 95, 42, 180, 0, 102, 176]
abbrev dktX3_parse_3 : List UInt8 := dkwX3_parse_3 ++ []
def dkwX3_parse_2 : List UInt8 := [180, 0, 21, 178, 0, 87, 166, 0, 14, 42, 182, 0, 34, 42, 182, 0, 223, 167, 255, 238, 42, 42]
abbrev dktX3_parse_2 : List UInt8 := dkwX3_parse_2 ++ dktX3_parse_3
def dkwX3_parse_1 : List UInt8 := [182, 0, 111, 60, 42, 187, 0, 107, 89, 27, 42, 3, 8, 182, 0, 111, 183, 0, 222, 181, 0, 102, 42]
abbrev dktX3_parse_1 : List UInt8 := dkwX3_parse_1 ++ dktX3_parse_2
def dkwX3_parse_0 : List UInt8 := [42, 42, 180, 0, 26, 18, 220, 182, 0, 175, 4, 182, 0, 95, 42, 182, 0, 34, 42, 5, 16, 6]
abbrev dktX3_parse_0 : List UInt8 := dkwX3_parse_0 ++ dktX3_parse_1
theorem dksX3_parse_0 : cX3_parse.data.toList.drop 0 = dktX3_parse_0 := by decide +kernel
theorem dksX3_parse_1 : cX3_parse.data.toList.drop 22 = dktX3_parse_1 := dk_seg dksX3_parse_0 22 rfl rfl
theorem dksX3_parse_2 : cX3_parse.data.toList.drop 45 = dktX3_parse_2 := dk_seg dksX3_parse_1 23 rfl rfl
theorem dksX3_parse_3 : cX3_parse.data.toList.drop 67 = dktX3_parse_3 := dk_seg dksX3_parse_2 22 rfl rfl
theorem dX3_parse_0 : decode cX3_parse 0 = .ok (.aload_n 0, 1) := dk_42 (dk_at dksX3_parse_0 0 rfl rfl)
theorem dX3_parse_1 : decode cX3_parse 1 = .ok (.aload_n 0, 1) := dk_42 (dk_at dksX3_parse_0 1 rfl rfl)
theorem dX3_parse_2 : decode cX3_parse 2 = .ok (.getfield 26, 3) := dk_180 0 26 (dk_at dksX3_parse_0 2 rfl rfl)
theorem dX3_parse_5 : decode cX3_parse 5 = .ok (.ldc 220, 2) := dk_18 220 (dk_at dksX3_parse_0 5 rfl rfl)
theorem dX3_parse_7 : decode cX3_parse 7 = .ok (.invokevirtual 175, 3) := dk_182 0 175 (dk_at dksX3_parse_0 7 rfl rfl)
theorem dX3_parse_10 : decode cX3_parse 10 = .ok (.iconst 1, 1) := dk_4 (dk_at dksX3_parse_0 10 rfl rfl)
theorem dX3_parse_11 : decode cX3_parse 11 = .ok (.invokevirtual 95, 3) := dk_182 0 95 (dk_at dksX3_parse_0 11 rfl rfl)
theorem dX3_parse_14 : decode cX3_parse 14 = .ok (.aload_n 0, 1) := dk_42 (dk_at dksX3_parse_0 14 rfl rfl)
theorem dX3_parse_15 : decode cX3_parse 15 = .ok (.invokevirtual 34, 3) := dk_182 0 34 (dk_at dksX3_parse_0 15 rfl rfl)
theorem dX3_parse_18 : decode cX3_parse 18 = .ok (.aload_n 0, 1) := dk_42 (dk_at dksX3_parse_0 18 rfl rfl)
theorem dX3_parse_19 : decode cX3_parse 19 = .ok (.iconst 2, 1) := dk_5 (dk_at dksX3_parse_0 19 rfl rfl)
theorem dX3_parse_20 : decode cX3_parse 20 = .ok (.bipush 6, 2) := dk_16 6 (dk_at dksX3_parse_0 20 rfl rfl)
theorem dX3_parse_22 : decode cX3_parse 22 = .ok (.invokevirtual 111, 3) := dk_182 0 111 (dk_at dksX3_parse_1 0 rfl rfl)
theorem dX3_parse_25 : decode cX3_parse 25 = .ok (.istore_n 1, 1) := dk_60 (dk_at dksX3_parse_1 3 rfl rfl)
theorem dX3_parse_26 : decode cX3_parse 26 = .ok (.aload_n 0, 1) := dk_42 (dk_at dksX3_parse_1 4 rfl rfl)
theorem dX3_parse_27 : decode cX3_parse 27 = .ok (.new 107, 3) := dk_187 0 107 (dk_at dksX3_parse_1 5 rfl rfl)
theorem dX3_parse_30 : decode cX3_parse 30 = .ok (.dup, 1) := dk_89 (dk_at dksX3_parse_1 8 rfl rfl)
theorem dX3_parse_31 : decode cX3_parse 31 = .ok (.iload_n 1, 1) := dk_27 (dk_at dksX3_parse_1 9 rfl rfl)
theorem dX3_parse_32 : decode cX3_parse 32 = .ok (.aload_n 0, 1) := dk_42 (dk_at dksX3_parse_1 10 rfl rfl)
theorem dX3_parse_33 : decode cX3_parse 33 = .ok (.iconst 0, 1) := dk_3 (dk_at dksX3_parse_1 11 rfl rfl)
theorem dX3_parse_34 : decode cX3_parse 34 = .ok (.iconst 5, 1) := dk_8 (dk_at dksX3_parse_1 12 rfl rfl)
theorem dX3_parse_35 : decode cX3_parse 35 = .ok (.invokevirtual 111, 3) := dk_182 0 111 (dk_at dksX3_parse_1 13 rfl rfl)
theorem dX3_parse_38 : decode cX3_parse 38 = .ok (.invokespecial 222, 3) := dk_183 0 222 (dk_at dksX3_parse_1 16 rfl rfl)
theorem dX3_parse_41 : decode cX3_parse 41 = .ok (.putfield 102, 3) := dk_181 0 102 (dk_at dksX3_parse_1 19 rfl rfl)
theorem dX3_parse_44 : decode cX3_parse 44 = .ok (.aload_n 0, 1) := dk_42 (dk_at dksX3_parse_1 22 rfl rfl)
theorem dX3_parse_45 : decode cX3_parse 45 = .ok (.getfield 21, 3) := dk_180 0 21 (dk_at dksX3_parse_2 0 rfl rfl)
theorem dX3_parse_48 : decode cX3_parse 48 = .ok (.getstatic 87, 3) := dk_178 0 87 (dk_at dksX3_parse_2 3 rfl rfl)
theorem dX3_parse_51 : decode cX3_parse 51 = .ok (.if_acmp .ne 14, 3) := dk_166 0 14 (dk_at dksX3_parse_2 6 rfl rfl)
theorem dX3_parse_54 : decode cX3_parse 54 = .ok (.aload_n 0, 1) := dk_42 (dk_at dksX3_parse_2 9 rfl rfl)
theorem dX3_parse_55 : decode cX3_parse 55 = .ok (.invokevirtual 34, 3) := dk_182 0 34 (dk_at dksX3_parse_2 10 rfl rfl)
theorem dX3_parse_58 : decode cX3_parse 58 = .ok (.aload_n 0, 1) := dk_42 (dk_at dksX3_parse_2 13 rfl rfl)
theorem dX3_parse_59 : decode cX3_parse 59 = .ok (.invokevirtual 223, 3) := dk_182 0 223 (dk_at dksX3_parse_2 14 rfl rfl)
theorem dX3_parse_62 : decode cX3_parse 62 = .ok (.goto (-18), 3) := dk_167 255 238 (dk_at dksX3_parse_2 17 rfl rfl)
theorem dX3_parse_65 : decode cX3_parse 65 = .ok (.aload_n 0, 1) := dk_42 (dk_at dksX3_parse_2 20 rfl rfl)
theorem dX3_parse_66 : decode cX3_parse 66 = .ok (.aload_n 0, 1) := dk_42 (dk_at dksX3_parse_2 21 rfl rfl)
theorem dX3_parse_67 : decode cX3_parse 67 = .ok (.getfield 21, 3) := dk_180 0 21 (dk_at dksX3_parse_3 0 rfl rfl)
theorem dX3_parse_70 : decode cX3_parse 70 = .ok (.getstatic 15, 3) := dk_178 0 15 (dk_at dksX3_parse_3 3 rfl rfl)
theorem dX3_parse_73 : decode cX3_parse 73 = .ok (.if_acmp .ne 7, 3) := dk_166 0 7 (dk_at dksX3_parse_3 6 rfl rfl)
theorem dX3_parse_76 : decode cX3_parse 76 = .ok (.iconst 1, 1) := dk_4 (dk_at dksX3_parse_3 9 rfl rfl)
theorem dX3_parse_77 : decode cX3_parse 77 = .ok (.goto 4, 3) := dk_167 0 4 (dk_at dksX3_parse_3 10 rfl rfl)
theorem dX3_parse_80 : decode cX3_parse 80 = .ok (.iconst 0, 1) := dk_3 (dk_at dksX3_parse_3 13 rfl rfl)
theorem dX3_parse_81 : decode cX3_parse 81 = .ok (.iconst 1, 1) := dk_4 (dk_at dksX3_parse_3 14 rfl rfl)
theorem dX3_parse_82 : decode cX3_parse 82 = .ok (.invokevirtual 95, 3) := dk_182 0 95 (dk_at dksX3_parse_3 15 rfl rfl)
theorem dX3_parse_85 : decode cX3_parse 85 = .ok (.aload_n 0, 1) := dk_42 (dk_at dksX3_parse_3 18 rfl rfl)
theorem dX3_parse_86 : decode cX3_parse 86 = .ok (.getfield 102, 3) := dk_180 0 102 (dk_at dksX3_parse_3 19 rfl rfl)
theorem dX3_parse_89 : decode cX3_parse 89 = .ok (.areturn, 1) := dk_176 (dk_at dksX3_parse_3 22 rfl rfl)
abbrev cX3_check : ByteArray := prog_6_method_5_code
def yX3_check : MethodName := ⟨RX3, "check", "(ZI)V"⟩
def dkwX3_check_0 : List UInt8 := [27, 154, 0, 16, 187, 0, 90, 89, 28, 42, 180, 0, 41, 183, 0, 92, 191, 177]
abbrev dktX3_check_0 : List UInt8 := dkwX3_check_0 ++ []
theorem dksX3_check_0 : cX3_check.data.toList.drop 0 = dktX3_check_0 := by decide +kernel
theorem dX3_check_0 : decode cX3_check 0 = .ok (.iload_n 1, 1) := dk_27 (dk_at dksX3_check_0 0 rfl rfl)
theorem dX3_check_1 : decode cX3_check 1 = .ok (.ifCond .ne 16, 3) := dk_154 0 16 (dk_at dksX3_check_0 1 rfl rfl)
theorem dX3_check_4 : decode cX3_check 4 = .ok (.new 90, 3) := dk_187 0 90 (dk_at dksX3_check_0 4 rfl rfl)
theorem dX3_check_7 : decode cX3_check 7 = .ok (.dup, 1) := dk_89 (dk_at dksX3_check_0 7 rfl rfl)
theorem dX3_check_8 : decode cX3_check 8 = .ok (.iload_n 2, 1) := dk_28 (dk_at dksX3_check_0 8 rfl rfl)
theorem dX3_check_9 : decode cX3_check 9 = .ok (.aload_n 0, 1) := dk_42 (dk_at dksX3_check_0 9 rfl rfl)
theorem dX3_check_10 : decode cX3_check 10 = .ok (.getfield 41, 3) := dk_180 0 41 (dk_at dksX3_check_0 10 rfl rfl)
theorem dX3_check_13 : decode cX3_check 13 = .ok (.invokespecial 92, 3) := dk_183 0 92 (dk_at dksX3_check_0 13 rfl rfl)
theorem dX3_check_16 : decode cX3_check 16 = .ok (.athrow, 1) := dk_191 (dk_at dksX3_check_0 16 rfl rfl)
theorem dX3_check_17 : decode cX3_check 17 = .ok (.return_, 1) := dk_177 (dk_at dksX3_check_0 17 rfl rfl)
abbrev cX3_number : ByteArray := prog_6_method_7_code
def yX3_number : MethodName := ⟨RX3, "number", "(II)I"⟩
def dkwX3_number_0 : List UInt8 := [42, 27, 28, 182, 0, 99, 62, 42, 182, 0, 34, 29, 172]
abbrev dktX3_number_0 : List UInt8 := dkwX3_number_0 ++ []
theorem dksX3_number_0 : cX3_number.data.toList.drop 0 = dktX3_number_0 := by decide +kernel
theorem dX3_number_0 : decode cX3_number 0 = .ok (.aload_n 0, 1) := dk_42 (dk_at dksX3_number_0 0 rfl rfl)
theorem dX3_number_1 : decode cX3_number 1 = .ok (.iload_n 1, 1) := dk_27 (dk_at dksX3_number_0 1 rfl rfl)
theorem dX3_number_2 : decode cX3_number 2 = .ok (.iload_n 2, 1) := dk_28 (dk_at dksX3_number_0 2 rfl rfl)
theorem dX3_number_3 : decode cX3_number 3 = .ok (.invokevirtual 99, 3) := dk_182 0 99 (dk_at dksX3_number_0 3 rfl rfl)
theorem dX3_number_6 : decode cX3_number 6 = .ok (.istore_n 3, 1) := dk_62 (dk_at dksX3_number_0 6 rfl rfl)
theorem dX3_number_7 : decode cX3_number 7 = .ok (.aload_n 0, 1) := dk_42 (dk_at dksX3_number_0 7 rfl rfl)
theorem dX3_number_8 : decode cX3_number 8 = .ok (.invokevirtual 34, 3) := dk_182 0 34 (dk_at dksX3_number_0 8 rfl rfl)
theorem dX3_number_11 : decode cX3_number 11 = .ok (.iload_n 3, 1) := dk_29 (dk_at dksX3_number_0 11 rfl rfl)
theorem dX3_number_12 : decode cX3_number 12 = .ok (.ireturn, 1) := dk_172 (dk_at dksX3_number_0 12 rfl rfl)
abbrev cX3_look : ByteArray := prog_6_method_6_code
def yX3_look : MethodName := ⟨RX3, "look", "(II)I"⟩
def dkwX3_look_3 : List UInt8 := [42, 29, 133, 27, 133, 28, 133, 184, 0, 48, 5, 182, 0, 95, 29, 172]
abbrev dktX3_look_3 : List UInt8 := dkwX3_look_3 ++ []
def dkwX3_look_2 : List UInt8 := [162, 0, 24, 16, 10, 29, 104, 42, 21, 4, 182, 0, 44, 96, 16, 48, 100, 62, 132, 4, 1, 167, 255, 229]
abbrev dktX3_look_2 : List UInt8 := dkwX3_look_2 ++ dktX3_look_3
def dkwX3_look_1 : List UInt8 := [4, 167, 0, 4, 3, 4, 182, 0, 95, 3, 62, 42, 180, 0, 41, 54, 4, 21, 4, 42, 180, 0, 52]
abbrev dktX3_look_1 : List UInt8 := dkwX3_look_1 ++ dktX3_look_2
def dkwX3_look_0 : List UInt8 := [42, 42, 180, 0, 21, 178, 0, 84, 166, 0, 20, 42, 180, 0, 52, 42, 180, 0, 41, 100, 5, 163, 0, 7]
abbrev dktX3_look_0 : List UInt8 := dkwX3_look_0 ++ dktX3_look_1
theorem dksX3_look_0 : cX3_look.data.toList.drop 0 = dktX3_look_0 := by decide +kernel
theorem dksX3_look_1 : cX3_look.data.toList.drop 24 = dktX3_look_1 := dk_seg dksX3_look_0 24 rfl rfl
theorem dksX3_look_2 : cX3_look.data.toList.drop 47 = dktX3_look_2 := dk_seg dksX3_look_1 23 rfl rfl
theorem dksX3_look_3 : cX3_look.data.toList.drop 71 = dktX3_look_3 := dk_seg dksX3_look_2 24 rfl rfl
theorem dX3_look_0 : decode cX3_look 0 = .ok (.aload_n 0, 1) := dk_42 (dk_at dksX3_look_0 0 rfl rfl)
theorem dX3_look_1 : decode cX3_look 1 = .ok (.aload_n 0, 1) := dk_42 (dk_at dksX3_look_0 1 rfl rfl)
theorem dX3_look_2 : decode cX3_look 2 = .ok (.getfield 21, 3) := dk_180 0 21 (dk_at dksX3_look_0 2 rfl rfl)
theorem dX3_look_5 : decode cX3_look 5 = .ok (.getstatic 84, 3) := dk_178 0 84 (dk_at dksX3_look_0 5 rfl rfl)
theorem dX3_look_8 : decode cX3_look 8 = .ok (.if_acmp .ne 20, 3) := dk_166 0 20 (dk_at dksX3_look_0 8 rfl rfl)
theorem dX3_look_11 : decode cX3_look 11 = .ok (.aload_n 0, 1) := dk_42 (dk_at dksX3_look_0 11 rfl rfl)
theorem dX3_look_12 : decode cX3_look 12 = .ok (.getfield 52, 3) := dk_180 0 52 (dk_at dksX3_look_0 12 rfl rfl)
theorem dX3_look_15 : decode cX3_look 15 = .ok (.aload_n 0, 1) := dk_42 (dk_at dksX3_look_0 15 rfl rfl)
theorem dX3_look_16 : decode cX3_look 16 = .ok (.getfield 41, 3) := dk_180 0 41 (dk_at dksX3_look_0 16 rfl rfl)
theorem dX3_look_19 : decode cX3_look 19 = .ok (.isub, 1) := dk_100 (dk_at dksX3_look_0 19 rfl rfl)
theorem dX3_look_20 : decode cX3_look 20 = .ok (.iconst 2, 1) := dk_5 (dk_at dksX3_look_0 20 rfl rfl)
theorem dX3_look_21 : decode cX3_look 21 = .ok (.if_icmp .gt 7, 3) := dk_163 0 7 (dk_at dksX3_look_0 21 rfl rfl)
theorem dX3_look_24 : decode cX3_look 24 = .ok (.iconst 1, 1) := dk_4 (dk_at dksX3_look_1 0 rfl rfl)
theorem dX3_look_25 : decode cX3_look 25 = .ok (.goto 4, 3) := dk_167 0 4 (dk_at dksX3_look_1 1 rfl rfl)
theorem dX3_look_28 : decode cX3_look 28 = .ok (.iconst 0, 1) := dk_3 (dk_at dksX3_look_1 4 rfl rfl)
theorem dX3_look_29 : decode cX3_look 29 = .ok (.iconst 1, 1) := dk_4 (dk_at dksX3_look_1 5 rfl rfl)
theorem dX3_look_30 : decode cX3_look 30 = .ok (.invokevirtual 95, 3) := dk_182 0 95 (dk_at dksX3_look_1 6 rfl rfl)
theorem dX3_look_33 : decode cX3_look 33 = .ok (.iconst 0, 1) := dk_3 (dk_at dksX3_look_1 9 rfl rfl)
theorem dX3_look_34 : decode cX3_look 34 = .ok (.istore_n 3, 1) := dk_62 (dk_at dksX3_look_1 10 rfl rfl)
theorem dX3_look_35 : decode cX3_look 35 = .ok (.aload_n 0, 1) := dk_42 (dk_at dksX3_look_1 11 rfl rfl)
theorem dX3_look_36 : decode cX3_look 36 = .ok (.getfield 41, 3) := dk_180 0 41 (dk_at dksX3_look_1 12 rfl rfl)
theorem dX3_look_39 : decode cX3_look 39 = .ok (.istore 4, 2) := dk_54 4 (dk_at dksX3_look_1 15 rfl rfl)
theorem dX3_look_41 : decode cX3_look 41 = .ok (.iload 4, 2) := dk_21 4 (dk_at dksX3_look_1 17 rfl rfl)
theorem dX3_look_43 : decode cX3_look 43 = .ok (.aload_n 0, 1) := dk_42 (dk_at dksX3_look_1 19 rfl rfl)
theorem dX3_look_44 : decode cX3_look 44 = .ok (.getfield 52, 3) := dk_180 0 52 (dk_at dksX3_look_1 20 rfl rfl)
theorem dX3_look_47 : decode cX3_look 47 = .ok (.if_icmp .ge 24, 3) := dk_162 0 24 (dk_at dksX3_look_2 0 rfl rfl)
theorem dX3_look_50 : decode cX3_look 50 = .ok (.bipush 10, 2) := dk_16 10 (dk_at dksX3_look_2 3 rfl rfl)
theorem dX3_look_52 : decode cX3_look 52 = .ok (.iload_n 3, 1) := dk_29 (dk_at dksX3_look_2 5 rfl rfl)
theorem dX3_look_53 : decode cX3_look 53 = .ok (.imul, 1) := dk_104 (dk_at dksX3_look_2 6 rfl rfl)
theorem dX3_look_54 : decode cX3_look 54 = .ok (.aload_n 0, 1) := dk_42 (dk_at dksX3_look_2 7 rfl rfl)
theorem dX3_look_55 : decode cX3_look 55 = .ok (.iload 4, 2) := dk_21 4 (dk_at dksX3_look_2 8 rfl rfl)
theorem dX3_look_57 : decode cX3_look 57 = .ok (.invokevirtual 44, 3) := dk_182 0 44 (dk_at dksX3_look_2 10 rfl rfl)
theorem dX3_look_60 : decode cX3_look 60 = .ok (.iadd, 1) := dk_96 (dk_at dksX3_look_2 13 rfl rfl)
theorem dX3_look_61 : decode cX3_look 61 = .ok (.bipush 48, 2) := dk_16 48 (dk_at dksX3_look_2 14 rfl rfl)
theorem dX3_look_63 : decode cX3_look 63 = .ok (.isub, 1) := dk_100 (dk_at dksX3_look_2 16 rfl rfl)
theorem dX3_look_64 : decode cX3_look 64 = .ok (.istore_n 3, 1) := dk_62 (dk_at dksX3_look_2 17 rfl rfl)
theorem dX3_look_65 : decode cX3_look 65 = .ok (.iinc 4 1, 3) := dk_132 4 1 (dk_at dksX3_look_2 18 rfl rfl)
theorem dX3_look_68 : decode cX3_look 68 = .ok (.goto (-27), 3) := dk_167 255 229 (dk_at dksX3_look_2 21 rfl rfl)
theorem dX3_look_71 : decode cX3_look 71 = .ok (.aload_n 0, 1) := dk_42 (dk_at dksX3_look_3 0 rfl rfl)
theorem dX3_look_72 : decode cX3_look 72 = .ok (.iload_n 3, 1) := dk_29 (dk_at dksX3_look_3 1 rfl rfl)
theorem dX3_look_73 : decode cX3_look 73 = .ok (.i2l, 1) := dk_133 (dk_at dksX3_look_3 2 rfl rfl)
theorem dX3_look_74 : decode cX3_look 74 = .ok (.iload_n 1, 1) := dk_27 (dk_at dksX3_look_3 3 rfl rfl)
theorem dX3_look_75 : decode cX3_look 75 = .ok (.i2l, 1) := dk_133 (dk_at dksX3_look_3 4 rfl rfl)
theorem dX3_look_76 : decode cX3_look 76 = .ok (.iload_n 2, 1) := dk_28 (dk_at dksX3_look_3 5 rfl rfl)
theorem dX3_look_77 : decode cX3_look 77 = .ok (.i2l, 1) := dk_133 (dk_at dksX3_look_3 6 rfl rfl)
theorem dX3_look_78 : decode cX3_look 78 = .ok (.invokestatic 48, 3) := dk_184 0 48 (dk_at dksX3_look_3 7 rfl rfl)
theorem dX3_look_81 : decode cX3_look 81 = .ok (.iconst 2, 1) := dk_5 (dk_at dksX3_look_3 10 rfl rfl)
theorem dX3_look_82 : decode cX3_look 82 = .ok (.invokevirtual 95, 3) := dk_182 0 95 (dk_at dksX3_look_3 11 rfl rfl)
theorem dX3_look_85 : decode cX3_look 85 = .ok (.iload_n 3, 1) := dk_29 (dk_at dksX3_look_3 14 rfl rfl)
theorem dX3_look_86 : decode cX3_look 86 = .ok (.ireturn, 1) := dk_172 (dk_at dksX3_look_3 15 rfl rfl)
abbrev cX3_line : ByteArray := prog_6_method_15_code
def yX3_line : MethodName := ⟨RX3, "line", "()V"⟩
def dkwX3_line_14 : List UInt8 := [182, 0, 111, 182, 0, 217, 54, 4, 167, 0, 9, 42, 3, 4, 182, 0, 95, 177]
abbrev dktX3_line_14 : List UInt8 := dkwX3_line_14 ++ []
def dkwX3_line_13 : List UInt8 := [180, 0, 122, 182, 0, 214, 62, 167, 0, 32, 42, 182, 0, 34, 42, 180, 0, 102, 42, 4, 16, 50]
abbrev dktX3_line_13 : List UInt8 := dkwX3_line_13 ++ dktX3_line_14
def dkwX3_line_12 : List UInt8 := [42, 180, 0, 102, 42, 3, 8, 182, 0, 111, 181, 0, 212, 167, 0, 50, 42, 182, 0, 34, 42, 180, 0, 102]
abbrev dktX3_line_12 : List UInt8 := dkwX3_line_12 ++ dktX3_line_13
def dkwX3_line_11 : List UInt8 := [182, 0, 203, 167, 0, 84, 42, 182, 0, 206, 167, 0, 77, 42, 182, 0, 209, 167, 0, 70, 42, 182, 0, 34]
abbrev dktX3_line_11 : List UInt8 := dkwX3_line_11 ++ dktX3_line_12
def dkwX3_line_10 : List UInt8 := [42, 182, 0, 194, 167, 0, 105, 42, 182, 0, 197, 167, 0, 98, 42, 182, 0, 200, 167, 0, 91, 42]
abbrev dktX3_line_10 : List UInt8 := dkwX3_line_10 ++ dktX3_line_11
def dkwX3_line_9 : List UInt8 := [170, 0, 0, 0, 152, 0, 0, 0, 0, 0, 0, 0, 8, 0, 0, 0, 49, 0, 0, 0, 56, 0, 0, 0, 63, 0, 0, 0, 70, 0, 0, 0, 77, 0, 0, 0, 84, 0, 0, 0, 91, 0, 0, 0, 111, 0, 0, 0, 129]
abbrev dktX3_line_9 : List UInt8 := dkwX3_line_9 ++ dktX3_line_10
def dkwX3_line_8 : List UInt8 := [182, 0, 175, 153, 0, 6, 16, 8, 61, 28]
abbrev dktX3_line_8 : List UInt8 := dkwX3_line_8 ++ dktX3_line_9
def dkwX3_line_7 : List UInt8 := [61, 167, 0, 30, 43, 18, 190, 182, 0, 175, 153, 0, 21, 16, 7, 61, 167, 0, 15, 43, 18, 192]
abbrev dktX3_line_7 : List UInt8 := dkwX3_line_7 ++ dktX3_line_8
def dkwX3_line_6 : List UInt8 := [18, 186, 182, 0, 175, 153, 0, 50, 8, 61, 167, 0, 45, 43, 18, 188, 182, 0, 175, 153, 0, 36, 16, 6]
abbrev dktX3_line_6 : List UInt8 := dkwX3_line_6 ++ dktX3_line_7
def dkwX3_line_5 : List UInt8 := [153, 0, 78, 6, 61, 167, 0, 73, 43, 18, 185, 182, 0, 175, 153, 0, 64, 7, 61, 167, 0, 59, 43]
abbrev dktX3_line_5 : List UInt8 := dkwX3_line_5 ++ dktX3_line_6
def dkwX3_line_4 : List UInt8 := [61, 167, 0, 101, 43, 18, 181, 182, 0, 175, 153, 0, 92, 5, 61, 167, 0, 87, 43, 18, 183, 182, 0, 175]
abbrev dktX3_line_4 : List UInt8 := dkwX3_line_4 ++ dktX3_line_5
def dkwX3_line_3 : List UInt8 := [43, 18, 174, 182, 0, 175, 153, 0, 120, 3, 61, 167, 0, 115, 43, 18, 179, 182, 0, 175, 153, 0, 106, 4]
abbrev dktX3_line_3 : List UInt8 := dkwX3_line_3 ++ dktX3_line_4
def dkwX3_line_2 : List UInt8 := [171, 0, 0, 0, 207, 0, 0, 0, 9, 0, 1, 130, 66, 0, 0, 0, 95, 0, 45, 213, 26, 0, 0, 0, 165, 0, 46, 122, 95, 0, 0, 0, 180, 0, 47, 46, 239, 0, 0, 0, 151, 0, 51, 21, 78, 0, 0, 0, 123, 0, 52, 100, 17, 0, 0, 0, 195, 0, 53, 192, 102, 0, 0, 0, 137, 0, 53, 207, 136, 0, 0, 0, 109, 6, 138, 248, 233, 0, 0, 0, 81]
abbrev dktX3_line_2 : List UInt8 := dkwX3_line_2 ++ dktX3_line_3
def dkwX3_line_1 : List UInt8 := [76, 2, 61, 43, 182, 0, 169]
abbrev dktX3_line_1 : List UInt8 := dkwX3_line_1 ++ dktX3_line_2
def dkwX3_line_0 : List UInt8 := [42, 42, 180, 0, 21, 178, 0, 63, 166, 0, 7, 4, 167, 0, 4, 3, 4, 182, 0, 95, 42, 180, 0, 26]
abbrev dktX3_line_0 : List UInt8 := dkwX3_line_0 ++ dktX3_line_1
theorem dksX3_line_0 : cX3_line.data.toList.drop 0 = dktX3_line_0 := by decide +kernel
theorem dksX3_line_1 : cX3_line.data.toList.drop 24 = dktX3_line_1 := dk_seg dksX3_line_0 24 rfl rfl
theorem dksX3_line_2 : cX3_line.data.toList.drop 31 = dktX3_line_2 := dk_seg dksX3_line_1 7 rfl rfl
theorem dksX3_line_3 : cX3_line.data.toList.drop 112 = dktX3_line_3 := dk_seg dksX3_line_2 81 rfl rfl
theorem dksX3_line_4 : cX3_line.data.toList.drop 136 = dktX3_line_4 := dk_seg dksX3_line_3 24 rfl rfl
theorem dksX3_line_5 : cX3_line.data.toList.drop 160 = dktX3_line_5 := dk_seg dksX3_line_4 24 rfl rfl
theorem dksX3_line_6 : cX3_line.data.toList.drop 183 = dktX3_line_6 := dk_seg dksX3_line_5 23 rfl rfl
theorem dksX3_line_7 : cX3_line.data.toList.drop 207 = dktX3_line_7 := dk_seg dksX3_line_6 24 rfl rfl
theorem dksX3_line_8 : cX3_line.data.toList.drop 229 = dktX3_line_8 := dk_seg dksX3_line_7 22 rfl rfl
theorem dksX3_line_9 : cX3_line.data.toList.drop 239 = dktX3_line_9 := dk_seg dksX3_line_8 10 rfl rfl
theorem dksX3_line_10 : cX3_line.data.toList.drop 288 = dktX3_line_10 := dk_seg dksX3_line_9 49 rfl rfl
theorem dksX3_line_11 : cX3_line.data.toList.drop 310 = dktX3_line_11 := dk_seg dksX3_line_10 22 rfl rfl
theorem dksX3_line_12 : cX3_line.data.toList.drop 334 = dktX3_line_12 := dk_seg dksX3_line_11 24 rfl rfl
theorem dksX3_line_13 : cX3_line.data.toList.drop 358 = dktX3_line_13 := dk_seg dksX3_line_12 24 rfl rfl
theorem dksX3_line_14 : cX3_line.data.toList.drop 380 = dktX3_line_14 := dk_seg dksX3_line_13 22 rfl rfl
theorem dX3_line_0 : decode cX3_line 0 = .ok (.aload_n 0, 1) := dk_42 (dk_at dksX3_line_0 0 rfl rfl)
theorem dX3_line_1 : decode cX3_line 1 = .ok (.aload_n 0, 1) := dk_42 (dk_at dksX3_line_0 1 rfl rfl)
theorem dX3_line_2 : decode cX3_line 2 = .ok (.getfield 21, 3) := dk_180 0 21 (dk_at dksX3_line_0 2 rfl rfl)
theorem dX3_line_5 : decode cX3_line 5 = .ok (.getstatic 63, 3) := dk_178 0 63 (dk_at dksX3_line_0 5 rfl rfl)
theorem dX3_line_8 : decode cX3_line 8 = .ok (.if_acmp .ne 7, 3) := dk_166 0 7 (dk_at dksX3_line_0 8 rfl rfl)
theorem dX3_line_11 : decode cX3_line 11 = .ok (.iconst 1, 1) := dk_4 (dk_at dksX3_line_0 11 rfl rfl)
theorem dX3_line_12 : decode cX3_line 12 = .ok (.goto 4, 3) := dk_167 0 4 (dk_at dksX3_line_0 12 rfl rfl)
theorem dX3_line_15 : decode cX3_line 15 = .ok (.iconst 0, 1) := dk_3 (dk_at dksX3_line_0 15 rfl rfl)
theorem dX3_line_16 : decode cX3_line 16 = .ok (.iconst 1, 1) := dk_4 (dk_at dksX3_line_0 16 rfl rfl)
theorem dX3_line_17 : decode cX3_line 17 = .ok (.invokevirtual 95, 3) := dk_182 0 95 (dk_at dksX3_line_0 17 rfl rfl)
theorem dX3_line_20 : decode cX3_line 20 = .ok (.aload_n 0, 1) := dk_42 (dk_at dksX3_line_0 20 rfl rfl)
theorem dX3_line_21 : decode cX3_line 21 = .ok (.getfield 26, 3) := dk_180 0 26 (dk_at dksX3_line_0 21 rfl rfl)
theorem dX3_line_24 : decode cX3_line 24 = .ok (.astore_n 1, 1) := dk_76 (dk_at dksX3_line_1 0 rfl rfl)
theorem dX3_line_25 : decode cX3_line 25 = .ok (.iconst (-1), 1) := dk_2 (dk_at dksX3_line_1 1 rfl rfl)
theorem dX3_line_26 : decode cX3_line 26 = .ok (.istore_n 2, 1) := dk_61 (dk_at dksX3_line_1 2 rfl rfl)
theorem dX3_line_27 : decode cX3_line 27 = .ok (.aload_n 1, 1) := dk_43 (dk_at dksX3_line_1 3 rfl rfl)
theorem dX3_line_28 : decode cX3_line 28 = .ok (.invokevirtual 169, 3) := dk_182 0 169 (dk_at dksX3_line_1 4 rfl rfl)
theorem dX3_line_31 : decode cX3_line 31 = .ok (.lookupswitch 207 #[(98882, 95), (3003674, 165), (3045983, 180), (3092207, 151), (3347790, 123), (3433489, 195), (3522662, 137), (3526536, 109), (109770985, 81)], 81) := by decide +kernel
theorem dX3_line_112 : decode cX3_line 112 = .ok (.aload_n 1, 1) := dk_43 (dk_at dksX3_line_3 0 rfl rfl)
theorem dX3_line_113 : decode cX3_line 113 = .ok (.ldc 174, 2) := dk_18 174 (dk_at dksX3_line_3 1 rfl rfl)
theorem dX3_line_115 : decode cX3_line 115 = .ok (.invokevirtual 175, 3) := dk_182 0 175 (dk_at dksX3_line_3 3 rfl rfl)
theorem dX3_line_118 : decode cX3_line 118 = .ok (.ifCond .eq 120, 3) := dk_153 0 120 (dk_at dksX3_line_3 6 rfl rfl)
theorem dX3_line_121 : decode cX3_line 121 = .ok (.iconst 0, 1) := dk_3 (dk_at dksX3_line_3 9 rfl rfl)
theorem dX3_line_122 : decode cX3_line 122 = .ok (.istore_n 2, 1) := dk_61 (dk_at dksX3_line_3 10 rfl rfl)
theorem dX3_line_123 : decode cX3_line 123 = .ok (.goto 115, 3) := dk_167 0 115 (dk_at dksX3_line_3 11 rfl rfl)
theorem dX3_line_126 : decode cX3_line 126 = .ok (.aload_n 1, 1) := dk_43 (dk_at dksX3_line_3 14 rfl rfl)
theorem dX3_line_127 : decode cX3_line 127 = .ok (.ldc 179, 2) := dk_18 179 (dk_at dksX3_line_3 15 rfl rfl)
theorem dX3_line_129 : decode cX3_line 129 = .ok (.invokevirtual 175, 3) := dk_182 0 175 (dk_at dksX3_line_3 17 rfl rfl)
theorem dX3_line_132 : decode cX3_line 132 = .ok (.ifCond .eq 106, 3) := dk_153 0 106 (dk_at dksX3_line_3 20 rfl rfl)
theorem dX3_line_135 : decode cX3_line 135 = .ok (.iconst 1, 1) := dk_4 (dk_at dksX3_line_3 23 rfl rfl)
theorem dX3_line_136 : decode cX3_line 136 = .ok (.istore_n 2, 1) := dk_61 (dk_at dksX3_line_4 0 rfl rfl)
theorem dX3_line_137 : decode cX3_line 137 = .ok (.goto 101, 3) := dk_167 0 101 (dk_at dksX3_line_4 1 rfl rfl)
theorem dX3_line_140 : decode cX3_line 140 = .ok (.aload_n 1, 1) := dk_43 (dk_at dksX3_line_4 4 rfl rfl)
theorem dX3_line_141 : decode cX3_line 141 = .ok (.ldc 181, 2) := dk_18 181 (dk_at dksX3_line_4 5 rfl rfl)
theorem dX3_line_143 : decode cX3_line 143 = .ok (.invokevirtual 175, 3) := dk_182 0 175 (dk_at dksX3_line_4 7 rfl rfl)
theorem dX3_line_146 : decode cX3_line 146 = .ok (.ifCond .eq 92, 3) := dk_153 0 92 (dk_at dksX3_line_4 10 rfl rfl)
theorem dX3_line_149 : decode cX3_line 149 = .ok (.iconst 2, 1) := dk_5 (dk_at dksX3_line_4 13 rfl rfl)
theorem dX3_line_150 : decode cX3_line 150 = .ok (.istore_n 2, 1) := dk_61 (dk_at dksX3_line_4 14 rfl rfl)
theorem dX3_line_151 : decode cX3_line 151 = .ok (.goto 87, 3) := dk_167 0 87 (dk_at dksX3_line_4 15 rfl rfl)
theorem dX3_line_154 : decode cX3_line 154 = .ok (.aload_n 1, 1) := dk_43 (dk_at dksX3_line_4 18 rfl rfl)
theorem dX3_line_155 : decode cX3_line 155 = .ok (.ldc 183, 2) := dk_18 183 (dk_at dksX3_line_4 19 rfl rfl)
theorem dX3_line_157 : decode cX3_line 157 = .ok (.invokevirtual 175, 3) := dk_182 0 175 (dk_at dksX3_line_4 21 rfl rfl)
theorem dX3_line_160 : decode cX3_line 160 = .ok (.ifCond .eq 78, 3) := dk_153 0 78 (dk_at dksX3_line_5 0 rfl rfl)
theorem dX3_line_163 : decode cX3_line 163 = .ok (.iconst 3, 1) := dk_6 (dk_at dksX3_line_5 3 rfl rfl)
theorem dX3_line_164 : decode cX3_line 164 = .ok (.istore_n 2, 1) := dk_61 (dk_at dksX3_line_5 4 rfl rfl)
theorem dX3_line_165 : decode cX3_line 165 = .ok (.goto 73, 3) := dk_167 0 73 (dk_at dksX3_line_5 5 rfl rfl)
theorem dX3_line_168 : decode cX3_line 168 = .ok (.aload_n 1, 1) := dk_43 (dk_at dksX3_line_5 8 rfl rfl)
theorem dX3_line_169 : decode cX3_line 169 = .ok (.ldc 185, 2) := dk_18 185 (dk_at dksX3_line_5 9 rfl rfl)
theorem dX3_line_171 : decode cX3_line 171 = .ok (.invokevirtual 175, 3) := dk_182 0 175 (dk_at dksX3_line_5 11 rfl rfl)
theorem dX3_line_174 : decode cX3_line 174 = .ok (.ifCond .eq 64, 3) := dk_153 0 64 (dk_at dksX3_line_5 14 rfl rfl)
theorem dX3_line_177 : decode cX3_line 177 = .ok (.iconst 4, 1) := dk_7 (dk_at dksX3_line_5 17 rfl rfl)
theorem dX3_line_178 : decode cX3_line 178 = .ok (.istore_n 2, 1) := dk_61 (dk_at dksX3_line_5 18 rfl rfl)
theorem dX3_line_179 : decode cX3_line 179 = .ok (.goto 59, 3) := dk_167 0 59 (dk_at dksX3_line_5 19 rfl rfl)
theorem dX3_line_182 : decode cX3_line 182 = .ok (.aload_n 1, 1) := dk_43 (dk_at dksX3_line_5 22 rfl rfl)
theorem dX3_line_183 : decode cX3_line 183 = .ok (.ldc 186, 2) := dk_18 186 (dk_at dksX3_line_6 0 rfl rfl)
theorem dX3_line_185 : decode cX3_line 185 = .ok (.invokevirtual 175, 3) := dk_182 0 175 (dk_at dksX3_line_6 2 rfl rfl)
theorem dX3_line_188 : decode cX3_line 188 = .ok (.ifCond .eq 50, 3) := dk_153 0 50 (dk_at dksX3_line_6 5 rfl rfl)
theorem dX3_line_191 : decode cX3_line 191 = .ok (.iconst 5, 1) := dk_8 (dk_at dksX3_line_6 8 rfl rfl)
theorem dX3_line_192 : decode cX3_line 192 = .ok (.istore_n 2, 1) := dk_61 (dk_at dksX3_line_6 9 rfl rfl)
theorem dX3_line_193 : decode cX3_line 193 = .ok (.goto 45, 3) := dk_167 0 45 (dk_at dksX3_line_6 10 rfl rfl)
theorem dX3_line_196 : decode cX3_line 196 = .ok (.aload_n 1, 1) := dk_43 (dk_at dksX3_line_6 13 rfl rfl)
theorem dX3_line_197 : decode cX3_line 197 = .ok (.ldc 188, 2) := dk_18 188 (dk_at dksX3_line_6 14 rfl rfl)
theorem dX3_line_199 : decode cX3_line 199 = .ok (.invokevirtual 175, 3) := dk_182 0 175 (dk_at dksX3_line_6 16 rfl rfl)
theorem dX3_line_202 : decode cX3_line 202 = .ok (.ifCond .eq 36, 3) := dk_153 0 36 (dk_at dksX3_line_6 19 rfl rfl)
theorem dX3_line_205 : decode cX3_line 205 = .ok (.bipush 6, 2) := dk_16 6 (dk_at dksX3_line_6 22 rfl rfl)
theorem dX3_line_207 : decode cX3_line 207 = .ok (.istore_n 2, 1) := dk_61 (dk_at dksX3_line_7 0 rfl rfl)
theorem dX3_line_208 : decode cX3_line 208 = .ok (.goto 30, 3) := dk_167 0 30 (dk_at dksX3_line_7 1 rfl rfl)
theorem dX3_line_211 : decode cX3_line 211 = .ok (.aload_n 1, 1) := dk_43 (dk_at dksX3_line_7 4 rfl rfl)
theorem dX3_line_212 : decode cX3_line 212 = .ok (.ldc 190, 2) := dk_18 190 (dk_at dksX3_line_7 5 rfl rfl)
theorem dX3_line_214 : decode cX3_line 214 = .ok (.invokevirtual 175, 3) := dk_182 0 175 (dk_at dksX3_line_7 7 rfl rfl)
theorem dX3_line_217 : decode cX3_line 217 = .ok (.ifCond .eq 21, 3) := dk_153 0 21 (dk_at dksX3_line_7 10 rfl rfl)
theorem dX3_line_220 : decode cX3_line 220 = .ok (.bipush 7, 2) := dk_16 7 (dk_at dksX3_line_7 13 rfl rfl)
theorem dX3_line_222 : decode cX3_line 222 = .ok (.istore_n 2, 1) := dk_61 (dk_at dksX3_line_7 15 rfl rfl)
theorem dX3_line_223 : decode cX3_line 223 = .ok (.goto 15, 3) := dk_167 0 15 (dk_at dksX3_line_7 16 rfl rfl)
theorem dX3_line_226 : decode cX3_line 226 = .ok (.aload_n 1, 1) := dk_43 (dk_at dksX3_line_7 19 rfl rfl)
theorem dX3_line_227 : decode cX3_line 227 = .ok (.ldc 192, 2) := dk_18 192 (dk_at dksX3_line_7 20 rfl rfl)
theorem dX3_line_229 : decode cX3_line 229 = .ok (.invokevirtual 175, 3) := dk_182 0 175 (dk_at dksX3_line_8 0 rfl rfl)
theorem dX3_line_232 : decode cX3_line 232 = .ok (.ifCond .eq 6, 3) := dk_153 0 6 (dk_at dksX3_line_8 3 rfl rfl)
theorem dX3_line_235 : decode cX3_line 235 = .ok (.bipush 8, 2) := dk_16 8 (dk_at dksX3_line_8 6 rfl rfl)
theorem dX3_line_237 : decode cX3_line 237 = .ok (.istore_n 2, 1) := dk_61 (dk_at dksX3_line_8 8 rfl rfl)
theorem dX3_line_238 : decode cX3_line 238 = .ok (.iload_n 2, 1) := dk_28 (dk_at dksX3_line_8 9 rfl rfl)
theorem dX3_line_239 : decode cX3_line 239 = .ok (.tableswitch 152 0 8 #[49, 56, 63, 70, 77, 84, 91, 111, 129], 49) := by decide +kernel
theorem dX3_line_288 : decode cX3_line 288 = .ok (.aload_n 0, 1) := dk_42 (dk_at dksX3_line_10 0 rfl rfl)
theorem dX3_line_289 : decode cX3_line 289 = .ok (.invokevirtual 194, 3) := dk_182 0 194 (dk_at dksX3_line_10 1 rfl rfl)
theorem dX3_line_292 : decode cX3_line 292 = .ok (.goto 105, 3) := dk_167 0 105 (dk_at dksX3_line_10 4 rfl rfl)
theorem dX3_line_295 : decode cX3_line 295 = .ok (.aload_n 0, 1) := dk_42 (dk_at dksX3_line_10 7 rfl rfl)
theorem dX3_line_296 : decode cX3_line 296 = .ok (.invokevirtual 197, 3) := dk_182 0 197 (dk_at dksX3_line_10 8 rfl rfl)
theorem dX3_line_299 : decode cX3_line 299 = .ok (.goto 98, 3) := dk_167 0 98 (dk_at dksX3_line_10 11 rfl rfl)
theorem dX3_line_302 : decode cX3_line 302 = .ok (.aload_n 0, 1) := dk_42 (dk_at dksX3_line_10 14 rfl rfl)
theorem dX3_line_303 : decode cX3_line 303 = .ok (.invokevirtual 200, 3) := dk_182 0 200 (dk_at dksX3_line_10 15 rfl rfl)
theorem dX3_line_306 : decode cX3_line 306 = .ok (.goto 91, 3) := dk_167 0 91 (dk_at dksX3_line_10 18 rfl rfl)
theorem dX3_line_309 : decode cX3_line 309 = .ok (.aload_n 0, 1) := dk_42 (dk_at dksX3_line_10 21 rfl rfl)
theorem dX3_line_310 : decode cX3_line 310 = .ok (.invokevirtual 203, 3) := dk_182 0 203 (dk_at dksX3_line_11 0 rfl rfl)
theorem dX3_line_313 : decode cX3_line 313 = .ok (.goto 84, 3) := dk_167 0 84 (dk_at dksX3_line_11 3 rfl rfl)
theorem dX3_line_316 : decode cX3_line 316 = .ok (.aload_n 0, 1) := dk_42 (dk_at dksX3_line_11 6 rfl rfl)
theorem dX3_line_317 : decode cX3_line 317 = .ok (.invokevirtual 206, 3) := dk_182 0 206 (dk_at dksX3_line_11 7 rfl rfl)
theorem dX3_line_320 : decode cX3_line 320 = .ok (.goto 77, 3) := dk_167 0 77 (dk_at dksX3_line_11 10 rfl rfl)
theorem dX3_line_323 : decode cX3_line 323 = .ok (.aload_n 0, 1) := dk_42 (dk_at dksX3_line_11 13 rfl rfl)
theorem dX3_line_324 : decode cX3_line 324 = .ok (.invokevirtual 209, 3) := dk_182 0 209 (dk_at dksX3_line_11 14 rfl rfl)
theorem dX3_line_327 : decode cX3_line 327 = .ok (.goto 70, 3) := dk_167 0 70 (dk_at dksX3_line_11 17 rfl rfl)
theorem dX3_line_330 : decode cX3_line 330 = .ok (.aload_n 0, 1) := dk_42 (dk_at dksX3_line_11 20 rfl rfl)
theorem dX3_line_331 : decode cX3_line 331 = .ok (.invokevirtual 34, 3) := dk_182 0 34 (dk_at dksX3_line_11 21 rfl rfl)
theorem dX3_line_334 : decode cX3_line 334 = .ok (.aload_n 0, 1) := dk_42 (dk_at dksX3_line_12 0 rfl rfl)
theorem dX3_line_335 : decode cX3_line 335 = .ok (.getfield 102, 3) := dk_180 0 102 (dk_at dksX3_line_12 1 rfl rfl)
theorem dX3_line_338 : decode cX3_line 338 = .ok (.aload_n 0, 1) := dk_42 (dk_at dksX3_line_12 4 rfl rfl)
theorem dX3_line_339 : decode cX3_line 339 = .ok (.iconst 0, 1) := dk_3 (dk_at dksX3_line_12 5 rfl rfl)
theorem dX3_line_340 : decode cX3_line 340 = .ok (.iconst 5, 1) := dk_8 (dk_at dksX3_line_12 6 rfl rfl)
theorem dX3_line_341 : decode cX3_line 341 = .ok (.invokevirtual 111, 3) := dk_182 0 111 (dk_at dksX3_line_12 7 rfl rfl)
theorem dX3_line_344 : decode cX3_line 344 = .ok (.putfield 212, 3) := dk_181 0 212 (dk_at dksX3_line_12 10 rfl rfl)
theorem dX3_line_347 : decode cX3_line 347 = .ok (.goto 50, 3) := dk_167 0 50 (dk_at dksX3_line_12 13 rfl rfl)
theorem dX3_line_350 : decode cX3_line 350 = .ok (.aload_n 0, 1) := dk_42 (dk_at dksX3_line_12 16 rfl rfl)
theorem dX3_line_351 : decode cX3_line 351 = .ok (.invokevirtual 34, 3) := dk_182 0 34 (dk_at dksX3_line_12 17 rfl rfl)
theorem dX3_line_354 : decode cX3_line 354 = .ok (.aload_n 0, 1) := dk_42 (dk_at dksX3_line_12 20 rfl rfl)
theorem dX3_line_355 : decode cX3_line 355 = .ok (.getfield 102, 3) := dk_180 0 102 (dk_at dksX3_line_12 21 rfl rfl)
theorem dX3_line_358 : decode cX3_line 358 = .ok (.getfield 122, 3) := dk_180 0 122 (dk_at dksX3_line_13 0 rfl rfl)
theorem dX3_line_361 : decode cX3_line 361 = .ok (.invokevirtual 214, 3) := dk_182 0 214 (dk_at dksX3_line_13 3 rfl rfl)
theorem dX3_line_364 : decode cX3_line 364 = .ok (.istore_n 3, 1) := dk_62 (dk_at dksX3_line_13 6 rfl rfl)
theorem dX3_line_365 : decode cX3_line 365 = .ok (.goto 32, 3) := dk_167 0 32 (dk_at dksX3_line_13 7 rfl rfl)
theorem dX3_line_368 : decode cX3_line 368 = .ok (.aload_n 0, 1) := dk_42 (dk_at dksX3_line_13 10 rfl rfl)
theorem dX3_line_369 : decode cX3_line 369 = .ok (.invokevirtual 34, 3) := dk_182 0 34 (dk_at dksX3_line_13 11 rfl rfl)
theorem dX3_line_372 : decode cX3_line 372 = .ok (.aload_n 0, 1) := dk_42 (dk_at dksX3_line_13 14 rfl rfl)
theorem dX3_line_373 : decode cX3_line 373 = .ok (.getfield 102, 3) := dk_180 0 102 (dk_at dksX3_line_13 15 rfl rfl)
theorem dX3_line_376 : decode cX3_line 376 = .ok (.aload_n 0, 1) := dk_42 (dk_at dksX3_line_13 18 rfl rfl)
theorem dX3_line_377 : decode cX3_line 377 = .ok (.iconst 1, 1) := dk_4 (dk_at dksX3_line_13 19 rfl rfl)
theorem dX3_line_378 : decode cX3_line 378 = .ok (.bipush 50, 2) := dk_16 50 (dk_at dksX3_line_13 20 rfl rfl)
theorem dX3_line_380 : decode cX3_line 380 = .ok (.invokevirtual 111, 3) := dk_182 0 111 (dk_at dksX3_line_14 0 rfl rfl)
theorem dX3_line_383 : decode cX3_line 383 = .ok (.invokevirtual 217, 3) := dk_182 0 217 (dk_at dksX3_line_14 3 rfl rfl)
theorem dX3_line_386 : decode cX3_line 386 = .ok (.istore 4, 2) := dk_54 4 (dk_at dksX3_line_14 6 rfl rfl)
theorem dX3_line_388 : decode cX3_line 388 = .ok (.goto 9, 3) := dk_167 0 9 (dk_at dksX3_line_14 8 rfl rfl)
theorem dX3_line_391 : decode cX3_line 391 = .ok (.aload_n 0, 1) := dk_42 (dk_at dksX3_line_14 11 rfl rfl)
theorem dX3_line_392 : decode cX3_line 392 = .ok (.iconst 0, 1) := dk_3 (dk_at dksX3_line_14 12 rfl rfl)
theorem dX3_line_393 : decode cX3_line 393 = .ok (.iconst 1, 1) := dk_4 (dk_at dksX3_line_14 13 rfl rfl)
theorem dX3_line_394 : decode cX3_line 394 = .ok (.invokevirtual 95, 3) := dk_182 0 95 (dk_at dksX3_line_14 14 rfl rfl)
theorem dX3_line_397 : decode cX3_line 397 = .ok (.return_, 1) := dk_177 (dk_at dksX3_line_14 17 rfl rfl)
abbrev cX3_stormLine : ByteArray := prog_6_method_9_code
def yX3_stormLine : MethodName := ⟨RX3, "stormLine", "()V"⟩
def dkwX3_stormLine_2 : List UInt8 := [182, 0, 111, 79, 42, 180, 0, 102, 180, 0, 122, 180, 0, 132, 29, 21, 4, 79, 177]
abbrev dktX3_stormLine_2 : List UInt8 := dkwX3_stormLine_2 ++ []
def dkwX3_stormLine_1 : List UInt8 := [42, 3, 16, 9, 182, 0, 111, 54, 4, 42, 180, 0, 102, 180, 0, 122, 180, 0, 126, 29, 42, 3, 16, 9]
abbrev dktX3_stormLine_1 : List UInt8 := dkwX3_stormLine_1 ++ dktX3_stormLine_2
def dkwX3_stormLine_0 : List UInt8 := [42, 182, 0, 114, 60, 42, 3, 5, 182, 0, 111, 61, 27, 28, 42, 3, 5, 182, 0, 111, 184, 0, 118, 62]
abbrev dktX3_stormLine_0 : List UInt8 := dkwX3_stormLine_0 ++ dktX3_stormLine_1
theorem dksX3_stormLine_0 : cX3_stormLine.data.toList.drop 0 = dktX3_stormLine_0 := by decide +kernel
theorem dksX3_stormLine_1 : cX3_stormLine.data.toList.drop 24 = dktX3_stormLine_1 := dk_seg dksX3_stormLine_0 24 rfl rfl
theorem dksX3_stormLine_2 : cX3_stormLine.data.toList.drop 48 = dktX3_stormLine_2 := dk_seg dksX3_stormLine_1 24 rfl rfl
theorem dX3_stormLine_0 : decode cX3_stormLine 0 = .ok (.aload_n 0, 1) := dk_42 (dk_at dksX3_stormLine_0 0 rfl rfl)
theorem dX3_stormLine_1 : decode cX3_stormLine 1 = .ok (.invokevirtual 114, 3) := dk_182 0 114 (dk_at dksX3_stormLine_0 1 rfl rfl)
theorem dX3_stormLine_4 : decode cX3_stormLine 4 = .ok (.istore_n 1, 1) := dk_60 (dk_at dksX3_stormLine_0 4 rfl rfl)
theorem dX3_stormLine_5 : decode cX3_stormLine 5 = .ok (.aload_n 0, 1) := dk_42 (dk_at dksX3_stormLine_0 5 rfl rfl)
theorem dX3_stormLine_6 : decode cX3_stormLine 6 = .ok (.iconst 0, 1) := dk_3 (dk_at dksX3_stormLine_0 6 rfl rfl)
theorem dX3_stormLine_7 : decode cX3_stormLine 7 = .ok (.iconst 2, 1) := dk_5 (dk_at dksX3_stormLine_0 7 rfl rfl)
theorem dX3_stormLine_8 : decode cX3_stormLine 8 = .ok (.invokevirtual 111, 3) := dk_182 0 111 (dk_at dksX3_stormLine_0 8 rfl rfl)
theorem dX3_stormLine_11 : decode cX3_stormLine 11 = .ok (.istore_n 2, 1) := dk_61 (dk_at dksX3_stormLine_0 11 rfl rfl)
theorem dX3_stormLine_12 : decode cX3_stormLine 12 = .ok (.iload_n 1, 1) := dk_27 (dk_at dksX3_stormLine_0 12 rfl rfl)
theorem dX3_stormLine_13 : decode cX3_stormLine 13 = .ok (.iload_n 2, 1) := dk_28 (dk_at dksX3_stormLine_0 13 rfl rfl)
theorem dX3_stormLine_14 : decode cX3_stormLine 14 = .ok (.aload_n 0, 1) := dk_42 (dk_at dksX3_stormLine_0 14 rfl rfl)
theorem dX3_stormLine_15 : decode cX3_stormLine 15 = .ok (.iconst 0, 1) := dk_3 (dk_at dksX3_stormLine_0 15 rfl rfl)
theorem dX3_stormLine_16 : decode cX3_stormLine 16 = .ok (.iconst 2, 1) := dk_5 (dk_at dksX3_stormLine_0 16 rfl rfl)
theorem dX3_stormLine_17 : decode cX3_stormLine 17 = .ok (.invokevirtual 111, 3) := dk_182 0 111 (dk_at dksX3_stormLine_0 17 rfl rfl)
theorem dX3_stormLine_20 : decode cX3_stormLine 20 = .ok (.invokestatic 118, 3) := dk_184 0 118 (dk_at dksX3_stormLine_0 20 rfl rfl)
theorem dX3_stormLine_23 : decode cX3_stormLine 23 = .ok (.istore_n 3, 1) := dk_62 (dk_at dksX3_stormLine_0 23 rfl rfl)
theorem dX3_stormLine_24 : decode cX3_stormLine 24 = .ok (.aload_n 0, 1) := dk_42 (dk_at dksX3_stormLine_1 0 rfl rfl)
theorem dX3_stormLine_25 : decode cX3_stormLine 25 = .ok (.iconst 0, 1) := dk_3 (dk_at dksX3_stormLine_1 1 rfl rfl)
theorem dX3_stormLine_26 : decode cX3_stormLine 26 = .ok (.bipush 9, 2) := dk_16 9 (dk_at dksX3_stormLine_1 2 rfl rfl)
theorem dX3_stormLine_28 : decode cX3_stormLine 28 = .ok (.invokevirtual 111, 3) := dk_182 0 111 (dk_at dksX3_stormLine_1 4 rfl rfl)
theorem dX3_stormLine_31 : decode cX3_stormLine 31 = .ok (.istore 4, 2) := dk_54 4 (dk_at dksX3_stormLine_1 7 rfl rfl)
theorem dX3_stormLine_33 : decode cX3_stormLine 33 = .ok (.aload_n 0, 1) := dk_42 (dk_at dksX3_stormLine_1 9 rfl rfl)
theorem dX3_stormLine_34 : decode cX3_stormLine 34 = .ok (.getfield 102, 3) := dk_180 0 102 (dk_at dksX3_stormLine_1 10 rfl rfl)
theorem dX3_stormLine_37 : decode cX3_stormLine 37 = .ok (.getfield 122, 3) := dk_180 0 122 (dk_at dksX3_stormLine_1 13 rfl rfl)
theorem dX3_stormLine_40 : decode cX3_stormLine 40 = .ok (.getfield 126, 3) := dk_180 0 126 (dk_at dksX3_stormLine_1 16 rfl rfl)
theorem dX3_stormLine_43 : decode cX3_stormLine 43 = .ok (.iload_n 3, 1) := dk_29 (dk_at dksX3_stormLine_1 19 rfl rfl)
theorem dX3_stormLine_44 : decode cX3_stormLine 44 = .ok (.aload_n 0, 1) := dk_42 (dk_at dksX3_stormLine_1 20 rfl rfl)
theorem dX3_stormLine_45 : decode cX3_stormLine 45 = .ok (.iconst 0, 1) := dk_3 (dk_at dksX3_stormLine_1 21 rfl rfl)
theorem dX3_stormLine_46 : decode cX3_stormLine 46 = .ok (.bipush 9, 2) := dk_16 9 (dk_at dksX3_stormLine_1 22 rfl rfl)
theorem dX3_stormLine_48 : decode cX3_stormLine 48 = .ok (.invokevirtual 111, 3) := dk_182 0 111 (dk_at dksX3_stormLine_2 0 rfl rfl)
theorem dX3_stormLine_51 : decode cX3_stormLine 51 = .ok (.iastore, 1) := dk_79 (dk_at dksX3_stormLine_2 3 rfl rfl)
theorem dX3_stormLine_52 : decode cX3_stormLine 52 = .ok (.aload_n 0, 1) := dk_42 (dk_at dksX3_stormLine_2 4 rfl rfl)
theorem dX3_stormLine_53 : decode cX3_stormLine 53 = .ok (.getfield 102, 3) := dk_180 0 102 (dk_at dksX3_stormLine_2 5 rfl rfl)
theorem dX3_stormLine_56 : decode cX3_stormLine 56 = .ok (.getfield 122, 3) := dk_180 0 122 (dk_at dksX3_stormLine_2 8 rfl rfl)
theorem dX3_stormLine_59 : decode cX3_stormLine 59 = .ok (.getfield 132, 3) := dk_180 0 132 (dk_at dksX3_stormLine_2 11 rfl rfl)
theorem dX3_stormLine_62 : decode cX3_stormLine 62 = .ok (.iload_n 3, 1) := dk_29 (dk_at dksX3_stormLine_2 14 rfl rfl)
theorem dX3_stormLine_63 : decode cX3_stormLine 63 = .ok (.iload 4, 2) := dk_21 4 (dk_at dksX3_stormLine_2 15 rfl rfl)
theorem dX3_stormLine_65 : decode cX3_stormLine 65 = .ok (.iastore, 1) := dk_79 (dk_at dksX3_stormLine_2 17 rfl rfl)
theorem dX3_stormLine_66 : decode cX3_stormLine 66 = .ok (.return_, 1) := dk_177 (dk_at dksX3_stormLine_2 18 rfl rfl)
abbrev cX3_level : ByteArray := prog_6_method_8_code
def yX3_level : MethodName := ⟨RX3, "level", "()I"⟩
def dkwX3_level_0 : List UInt8 := [42, 182, 0, 34, 42, 3, 42, 180, 0, 102, 180, 0, 106, 5, 100, 182, 0, 111, 172]
abbrev dktX3_level_0 : List UInt8 := dkwX3_level_0 ++ []
theorem dksX3_level_0 : cX3_level.data.toList.drop 0 = dktX3_level_0 := by decide +kernel
theorem dX3_level_0 : decode cX3_level 0 = .ok (.aload_n 0, 1) := dk_42 (dk_at dksX3_level_0 0 rfl rfl)
theorem dX3_level_1 : decode cX3_level 1 = .ok (.invokevirtual 34, 3) := dk_182 0 34 (dk_at dksX3_level_0 1 rfl rfl)
theorem dX3_level_4 : decode cX3_level 4 = .ok (.aload_n 0, 1) := dk_42 (dk_at dksX3_level_0 4 rfl rfl)
theorem dX3_level_5 : decode cX3_level 5 = .ok (.iconst 0, 1) := dk_3 (dk_at dksX3_level_0 5 rfl rfl)
theorem dX3_level_6 : decode cX3_level 6 = .ok (.aload_n 0, 1) := dk_42 (dk_at dksX3_level_0 6 rfl rfl)
theorem dX3_level_7 : decode cX3_level 7 = .ok (.getfield 102, 3) := dk_180 0 102 (dk_at dksX3_level_0 7 rfl rfl)
theorem dX3_level_10 : decode cX3_level 10 = .ok (.getfield 106, 3) := dk_180 0 106 (dk_at dksX3_level_0 10 rfl rfl)
theorem dX3_level_13 : decode cX3_level 13 = .ok (.iconst 2, 1) := dk_5 (dk_at dksX3_level_0 13 rfl rfl)
theorem dX3_level_14 : decode cX3_level 14 = .ok (.isub, 1) := dk_100 (dk_at dksX3_level_0 14 rfl rfl)
theorem dX3_level_15 : decode cX3_level 15 = .ok (.invokevirtual 111, 3) := dk_182 0 111 (dk_at dksX3_level_0 15 rfl rfl)
theorem dX3_level_18 : decode cX3_level 18 = .ok (.ireturn, 1) := dk_172 (dk_at dksX3_level_0 18 rfl rfl)
abbrev cX3_cutLine : ByteArray := prog_6_method_10_code
def yX3_cutLine : MethodName := ⟨RX3, "cutLine", "()V"⟩
def dkwX3_cutLine_2 : List UInt8 := [182, 0, 95, 42, 180, 0, 102, 180, 0, 122, 180, 0, 135, 29, 4, 84, 42, 182, 0, 34, 177]
abbrev dktX3_cutLine_2 : List UInt8 := dkwX3_cutLine_2 ++ []
def dkwX3_cutLine_1 : List UInt8 := [42, 42, 180, 0, 102, 180, 0, 122, 180, 0, 135, 29, 51, 154, 0, 7, 4, 167, 0, 4, 3, 6]
abbrev dktX3_cutLine_1 : List UInt8 := dkwX3_cutLine_1 ++ dktX3_cutLine_2
def dkwX3_cutLine_0 : List UInt8 := [42, 182, 0, 114, 60, 42, 3, 5, 182, 0, 111, 61, 27, 28, 42, 3, 5, 182, 0, 99, 184, 0, 118, 62]
abbrev dktX3_cutLine_0 : List UInt8 := dkwX3_cutLine_0 ++ dktX3_cutLine_1
theorem dksX3_cutLine_0 : cX3_cutLine.data.toList.drop 0 = dktX3_cutLine_0 := by decide +kernel
theorem dksX3_cutLine_1 : cX3_cutLine.data.toList.drop 24 = dktX3_cutLine_1 := dk_seg dksX3_cutLine_0 24 rfl rfl
theorem dksX3_cutLine_2 : cX3_cutLine.data.toList.drop 46 = dktX3_cutLine_2 := dk_seg dksX3_cutLine_1 22 rfl rfl
theorem dX3_cutLine_0 : decode cX3_cutLine 0 = .ok (.aload_n 0, 1) := dk_42 (dk_at dksX3_cutLine_0 0 rfl rfl)
theorem dX3_cutLine_1 : decode cX3_cutLine 1 = .ok (.invokevirtual 114, 3) := dk_182 0 114 (dk_at dksX3_cutLine_0 1 rfl rfl)
theorem dX3_cutLine_4 : decode cX3_cutLine 4 = .ok (.istore_n 1, 1) := dk_60 (dk_at dksX3_cutLine_0 4 rfl rfl)
theorem dX3_cutLine_5 : decode cX3_cutLine 5 = .ok (.aload_n 0, 1) := dk_42 (dk_at dksX3_cutLine_0 5 rfl rfl)
theorem dX3_cutLine_6 : decode cX3_cutLine 6 = .ok (.iconst 0, 1) := dk_3 (dk_at dksX3_cutLine_0 6 rfl rfl)
theorem dX3_cutLine_7 : decode cX3_cutLine 7 = .ok (.iconst 2, 1) := dk_5 (dk_at dksX3_cutLine_0 7 rfl rfl)
theorem dX3_cutLine_8 : decode cX3_cutLine 8 = .ok (.invokevirtual 111, 3) := dk_182 0 111 (dk_at dksX3_cutLine_0 8 rfl rfl)
theorem dX3_cutLine_11 : decode cX3_cutLine 11 = .ok (.istore_n 2, 1) := dk_61 (dk_at dksX3_cutLine_0 11 rfl rfl)
theorem dX3_cutLine_12 : decode cX3_cutLine 12 = .ok (.iload_n 1, 1) := dk_27 (dk_at dksX3_cutLine_0 12 rfl rfl)
theorem dX3_cutLine_13 : decode cX3_cutLine 13 = .ok (.iload_n 2, 1) := dk_28 (dk_at dksX3_cutLine_0 13 rfl rfl)
theorem dX3_cutLine_14 : decode cX3_cutLine 14 = .ok (.aload_n 0, 1) := dk_42 (dk_at dksX3_cutLine_0 14 rfl rfl)
theorem dX3_cutLine_15 : decode cX3_cutLine 15 = .ok (.iconst 0, 1) := dk_3 (dk_at dksX3_cutLine_0 15 rfl rfl)
theorem dX3_cutLine_16 : decode cX3_cutLine 16 = .ok (.iconst 2, 1) := dk_5 (dk_at dksX3_cutLine_0 16 rfl rfl)
theorem dX3_cutLine_17 : decode cX3_cutLine 17 = .ok (.invokevirtual 99, 3) := dk_182 0 99 (dk_at dksX3_cutLine_0 17 rfl rfl)
theorem dX3_cutLine_20 : decode cX3_cutLine 20 = .ok (.invokestatic 118, 3) := dk_184 0 118 (dk_at dksX3_cutLine_0 20 rfl rfl)
theorem dX3_cutLine_23 : decode cX3_cutLine 23 = .ok (.istore_n 3, 1) := dk_62 (dk_at dksX3_cutLine_0 23 rfl rfl)
theorem dX3_cutLine_24 : decode cX3_cutLine 24 = .ok (.aload_n 0, 1) := dk_42 (dk_at dksX3_cutLine_1 0 rfl rfl)
theorem dX3_cutLine_25 : decode cX3_cutLine 25 = .ok (.aload_n 0, 1) := dk_42 (dk_at dksX3_cutLine_1 1 rfl rfl)
theorem dX3_cutLine_26 : decode cX3_cutLine 26 = .ok (.getfield 102, 3) := dk_180 0 102 (dk_at dksX3_cutLine_1 2 rfl rfl)
theorem dX3_cutLine_29 : decode cX3_cutLine 29 = .ok (.getfield 122, 3) := dk_180 0 122 (dk_at dksX3_cutLine_1 5 rfl rfl)
theorem dX3_cutLine_32 : decode cX3_cutLine 32 = .ok (.getfield 135, 3) := dk_180 0 135 (dk_at dksX3_cutLine_1 8 rfl rfl)
theorem dX3_cutLine_35 : decode cX3_cutLine 35 = .ok (.iload_n 3, 1) := dk_29 (dk_at dksX3_cutLine_1 11 rfl rfl)
theorem dX3_cutLine_36 : decode cX3_cutLine 36 = .ok (.baload, 1) := dk_51 (dk_at dksX3_cutLine_1 12 rfl rfl)
theorem dX3_cutLine_37 : decode cX3_cutLine 37 = .ok (.ifCond .ne 7, 3) := dk_154 0 7 (dk_at dksX3_cutLine_1 13 rfl rfl)
theorem dX3_cutLine_40 : decode cX3_cutLine 40 = .ok (.iconst 1, 1) := dk_4 (dk_at dksX3_cutLine_1 16 rfl rfl)
theorem dX3_cutLine_41 : decode cX3_cutLine 41 = .ok (.goto 4, 3) := dk_167 0 4 (dk_at dksX3_cutLine_1 17 rfl rfl)
theorem dX3_cutLine_44 : decode cX3_cutLine 44 = .ok (.iconst 0, 1) := dk_3 (dk_at dksX3_cutLine_1 20 rfl rfl)
theorem dX3_cutLine_45 : decode cX3_cutLine 45 = .ok (.iconst 3, 1) := dk_6 (dk_at dksX3_cutLine_1 21 rfl rfl)
theorem dX3_cutLine_46 : decode cX3_cutLine 46 = .ok (.invokevirtual 95, 3) := dk_182 0 95 (dk_at dksX3_cutLine_2 0 rfl rfl)
theorem dX3_cutLine_49 : decode cX3_cutLine 49 = .ok (.aload_n 0, 1) := dk_42 (dk_at dksX3_cutLine_2 3 rfl rfl)
theorem dX3_cutLine_50 : decode cX3_cutLine 50 = .ok (.getfield 102, 3) := dk_180 0 102 (dk_at dksX3_cutLine_2 4 rfl rfl)
theorem dX3_cutLine_53 : decode cX3_cutLine 53 = .ok (.getfield 122, 3) := dk_180 0 122 (dk_at dksX3_cutLine_2 7 rfl rfl)
theorem dX3_cutLine_56 : decode cX3_cutLine 56 = .ok (.getfield 135, 3) := dk_180 0 135 (dk_at dksX3_cutLine_2 10 rfl rfl)
theorem dX3_cutLine_59 : decode cX3_cutLine 59 = .ok (.iload_n 3, 1) := dk_29 (dk_at dksX3_cutLine_2 13 rfl rfl)
theorem dX3_cutLine_60 : decode cX3_cutLine 60 = .ok (.iconst 1, 1) := dk_4 (dk_at dksX3_cutLine_2 14 rfl rfl)
theorem dX3_cutLine_61 : decode cX3_cutLine 61 = .ok (.bastore, 1) := dk_84 (dk_at dksX3_cutLine_2 15 rfl rfl)
theorem dX3_cutLine_62 : decode cX3_cutLine 62 = .ok (.aload_n 0, 1) := dk_42 (dk_at dksX3_cutLine_2 16 rfl rfl)
theorem dX3_cutLine_63 : decode cX3_cutLine 63 = .ok (.invokevirtual 34, 3) := dk_182 0 34 (dk_at dksX3_cutLine_2 17 rfl rfl)
theorem dX3_cutLine_66 : decode cX3_cutLine 66 = .ok (.return_, 1) := dk_177 (dk_at dksX3_cutLine_2 20 rfl rfl)
abbrev cX3_sendLine : ByteArray := prog_6_method_14_code
def yX3_sendLine : MethodName := ⟨RX3, "sendLine", "()V"⟩
def dkwX3_sendLine_4 : List UInt8 := [180, 0, 102, 43, 182, 0, 152, 61, 42, 182, 0, 34, 177]
abbrev dktX3_sendLine_4 : List UInt8 := dkwX3_sendLine_4 ++ []
def dkwX3_sendLine_3 : List UInt8 := [28, 42, 42, 180, 0, 41, 28, 96, 182, 0, 44, 16, 48, 100, 79, 132, 2, 1, 167, 255, 231, 42]
abbrev dktX3_sendLine_3 : List UInt8 := dkwX3_sendLine_3 ++ dktX3_sendLine_4
def dkwX3_sendLine_2 : List UInt8 := [182, 0, 95, 42, 180, 0, 52, 42, 180, 0, 41, 100, 188, 10, 76, 3, 61, 28, 43, 190, 162, 0, 25, 43]
abbrev dktX3_sendLine_2 : List UInt8 := dkwX3_sendLine_2 ++ dktX3_sendLine_3
def dkwX3_sendLine_1 : List UInt8 := [182, 0, 95, 42, 182, 0, 34, 42, 42, 180, 0, 21, 178, 0, 84, 166, 0, 7, 4, 167, 0, 4, 3, 4]
abbrev dktX3_sendLine_1 : List UInt8 := dkwX3_sendLine_1 ++ dktX3_sendLine_2
def dkwX3_sendLine_0 : List UInt8 := [42, 42, 180, 0, 102, 180, 0, 139, 185, 0, 143, 1, 0, 16, 6, 162, 0, 7, 4, 167, 0, 4, 3, 6]
abbrev dktX3_sendLine_0 : List UInt8 := dkwX3_sendLine_0 ++ dktX3_sendLine_1
theorem dksX3_sendLine_0 : cX3_sendLine.data.toList.drop 0 = dktX3_sendLine_0 := by decide +kernel
theorem dksX3_sendLine_1 : cX3_sendLine.data.toList.drop 24 = dktX3_sendLine_1 := dk_seg dksX3_sendLine_0 24 rfl rfl
theorem dksX3_sendLine_2 : cX3_sendLine.data.toList.drop 48 = dktX3_sendLine_2 := dk_seg dksX3_sendLine_1 24 rfl rfl
theorem dksX3_sendLine_3 : cX3_sendLine.data.toList.drop 72 = dktX3_sendLine_3 := dk_seg dksX3_sendLine_2 24 rfl rfl
theorem dksX3_sendLine_4 : cX3_sendLine.data.toList.drop 94 = dktX3_sendLine_4 := dk_seg dksX3_sendLine_3 22 rfl rfl
theorem dX3_sendLine_0 : decode cX3_sendLine 0 = .ok (.aload_n 0, 1) := dk_42 (dk_at dksX3_sendLine_0 0 rfl rfl)
theorem dX3_sendLine_1 : decode cX3_sendLine 1 = .ok (.aload_n 0, 1) := dk_42 (dk_at dksX3_sendLine_0 1 rfl rfl)
theorem dX3_sendLine_2 : decode cX3_sendLine 2 = .ok (.getfield 102, 3) := dk_180 0 102 (dk_at dksX3_sendLine_0 2 rfl rfl)
theorem dX3_sendLine_5 : decode cX3_sendLine 5 = .ok (.getfield 139, 3) := dk_180 0 139 (dk_at dksX3_sendLine_0 5 rfl rfl)
theorem dX3_sendLine_8 : decode cX3_sendLine 8 = .ok (.invokeinterface 143 1, 5) := by decide +kernel
theorem dX3_sendLine_13 : decode cX3_sendLine 13 = .ok (.bipush 6, 2) := dk_16 6 (dk_at dksX3_sendLine_0 13 rfl rfl)
theorem dX3_sendLine_15 : decode cX3_sendLine 15 = .ok (.if_icmp .ge 7, 3) := dk_162 0 7 (dk_at dksX3_sendLine_0 15 rfl rfl)
theorem dX3_sendLine_18 : decode cX3_sendLine 18 = .ok (.iconst 1, 1) := dk_4 (dk_at dksX3_sendLine_0 18 rfl rfl)
theorem dX3_sendLine_19 : decode cX3_sendLine 19 = .ok (.goto 4, 3) := dk_167 0 4 (dk_at dksX3_sendLine_0 19 rfl rfl)
theorem dX3_sendLine_22 : decode cX3_sendLine 22 = .ok (.iconst 0, 1) := dk_3 (dk_at dksX3_sendLine_0 22 rfl rfl)
theorem dX3_sendLine_23 : decode cX3_sendLine 23 = .ok (.iconst 3, 1) := dk_6 (dk_at dksX3_sendLine_0 23 rfl rfl)
theorem dX3_sendLine_24 : decode cX3_sendLine 24 = .ok (.invokevirtual 95, 3) := dk_182 0 95 (dk_at dksX3_sendLine_1 0 rfl rfl)
theorem dX3_sendLine_27 : decode cX3_sendLine 27 = .ok (.aload_n 0, 1) := dk_42 (dk_at dksX3_sendLine_1 3 rfl rfl)
theorem dX3_sendLine_28 : decode cX3_sendLine 28 = .ok (.invokevirtual 34, 3) := dk_182 0 34 (dk_at dksX3_sendLine_1 4 rfl rfl)
theorem dX3_sendLine_31 : decode cX3_sendLine 31 = .ok (.aload_n 0, 1) := dk_42 (dk_at dksX3_sendLine_1 7 rfl rfl)
theorem dX3_sendLine_32 : decode cX3_sendLine 32 = .ok (.aload_n 0, 1) := dk_42 (dk_at dksX3_sendLine_1 8 rfl rfl)
theorem dX3_sendLine_33 : decode cX3_sendLine 33 = .ok (.getfield 21, 3) := dk_180 0 21 (dk_at dksX3_sendLine_1 9 rfl rfl)
theorem dX3_sendLine_36 : decode cX3_sendLine 36 = .ok (.getstatic 84, 3) := dk_178 0 84 (dk_at dksX3_sendLine_1 12 rfl rfl)
theorem dX3_sendLine_39 : decode cX3_sendLine 39 = .ok (.if_acmp .ne 7, 3) := dk_166 0 7 (dk_at dksX3_sendLine_1 15 rfl rfl)
theorem dX3_sendLine_42 : decode cX3_sendLine 42 = .ok (.iconst 1, 1) := dk_4 (dk_at dksX3_sendLine_1 18 rfl rfl)
theorem dX3_sendLine_43 : decode cX3_sendLine 43 = .ok (.goto 4, 3) := dk_167 0 4 (dk_at dksX3_sendLine_1 19 rfl rfl)
theorem dX3_sendLine_46 : decode cX3_sendLine 46 = .ok (.iconst 0, 1) := dk_3 (dk_at dksX3_sendLine_1 22 rfl rfl)
theorem dX3_sendLine_47 : decode cX3_sendLine 47 = .ok (.iconst 1, 1) := dk_4 (dk_at dksX3_sendLine_1 23 rfl rfl)
theorem dX3_sendLine_48 : decode cX3_sendLine 48 = .ok (.invokevirtual 95, 3) := dk_182 0 95 (dk_at dksX3_sendLine_2 0 rfl rfl)
theorem dX3_sendLine_51 : decode cX3_sendLine 51 = .ok (.aload_n 0, 1) := dk_42 (dk_at dksX3_sendLine_2 3 rfl rfl)
theorem dX3_sendLine_52 : decode cX3_sendLine 52 = .ok (.getfield 52, 3) := dk_180 0 52 (dk_at dksX3_sendLine_2 4 rfl rfl)
theorem dX3_sendLine_55 : decode cX3_sendLine 55 = .ok (.aload_n 0, 1) := dk_42 (dk_at dksX3_sendLine_2 7 rfl rfl)
theorem dX3_sendLine_56 : decode cX3_sendLine 56 = .ok (.getfield 41, 3) := dk_180 0 41 (dk_at dksX3_sendLine_2 8 rfl rfl)
theorem dX3_sendLine_59 : decode cX3_sendLine 59 = .ok (.isub, 1) := dk_100 (dk_at dksX3_sendLine_2 11 rfl rfl)
theorem dX3_sendLine_60 : decode cX3_sendLine 60 = .ok (.newarray .int, 2) := dk_188_10 (dk_at dksX3_sendLine_2 12 rfl rfl)
theorem dX3_sendLine_62 : decode cX3_sendLine 62 = .ok (.astore_n 1, 1) := dk_76 (dk_at dksX3_sendLine_2 14 rfl rfl)
theorem dX3_sendLine_63 : decode cX3_sendLine 63 = .ok (.iconst 0, 1) := dk_3 (dk_at dksX3_sendLine_2 15 rfl rfl)
theorem dX3_sendLine_64 : decode cX3_sendLine 64 = .ok (.istore_n 2, 1) := dk_61 (dk_at dksX3_sendLine_2 16 rfl rfl)
theorem dX3_sendLine_65 : decode cX3_sendLine 65 = .ok (.iload_n 2, 1) := dk_28 (dk_at dksX3_sendLine_2 17 rfl rfl)
theorem dX3_sendLine_66 : decode cX3_sendLine 66 = .ok (.aload_n 1, 1) := dk_43 (dk_at dksX3_sendLine_2 18 rfl rfl)
theorem dX3_sendLine_67 : decode cX3_sendLine 67 = .ok (.arraylength, 1) := dk_190 (dk_at dksX3_sendLine_2 19 rfl rfl)
theorem dX3_sendLine_68 : decode cX3_sendLine 68 = .ok (.if_icmp .ge 25, 3) := dk_162 0 25 (dk_at dksX3_sendLine_2 20 rfl rfl)
theorem dX3_sendLine_71 : decode cX3_sendLine 71 = .ok (.aload_n 1, 1) := dk_43 (dk_at dksX3_sendLine_2 23 rfl rfl)
theorem dX3_sendLine_72 : decode cX3_sendLine 72 = .ok (.iload_n 2, 1) := dk_28 (dk_at dksX3_sendLine_3 0 rfl rfl)
theorem dX3_sendLine_73 : decode cX3_sendLine 73 = .ok (.aload_n 0, 1) := dk_42 (dk_at dksX3_sendLine_3 1 rfl rfl)
theorem dX3_sendLine_74 : decode cX3_sendLine 74 = .ok (.aload_n 0, 1) := dk_42 (dk_at dksX3_sendLine_3 2 rfl rfl)
theorem dX3_sendLine_75 : decode cX3_sendLine 75 = .ok (.getfield 41, 3) := dk_180 0 41 (dk_at dksX3_sendLine_3 3 rfl rfl)
theorem dX3_sendLine_78 : decode cX3_sendLine 78 = .ok (.iload_n 2, 1) := dk_28 (dk_at dksX3_sendLine_3 6 rfl rfl)
theorem dX3_sendLine_79 : decode cX3_sendLine 79 = .ok (.iadd, 1) := dk_96 (dk_at dksX3_sendLine_3 7 rfl rfl)
theorem dX3_sendLine_80 : decode cX3_sendLine 80 = .ok (.invokevirtual 44, 3) := dk_182 0 44 (dk_at dksX3_sendLine_3 8 rfl rfl)
theorem dX3_sendLine_83 : decode cX3_sendLine 83 = .ok (.bipush 48, 2) := dk_16 48 (dk_at dksX3_sendLine_3 11 rfl rfl)
theorem dX3_sendLine_85 : decode cX3_sendLine 85 = .ok (.isub, 1) := dk_100 (dk_at dksX3_sendLine_3 13 rfl rfl)
theorem dX3_sendLine_86 : decode cX3_sendLine 86 = .ok (.iastore, 1) := dk_79 (dk_at dksX3_sendLine_3 14 rfl rfl)
theorem dX3_sendLine_87 : decode cX3_sendLine 87 = .ok (.iinc 2 1, 3) := dk_132 2 1 (dk_at dksX3_sendLine_3 15 rfl rfl)
theorem dX3_sendLine_90 : decode cX3_sendLine 90 = .ok (.goto (-25), 3) := dk_167 255 231 (dk_at dksX3_sendLine_3 18 rfl rfl)
theorem dX3_sendLine_93 : decode cX3_sendLine 93 = .ok (.aload_n 0, 1) := dk_42 (dk_at dksX3_sendLine_3 21 rfl rfl)
theorem dX3_sendLine_94 : decode cX3_sendLine 94 = .ok (.getfield 102, 3) := dk_180 0 102 (dk_at dksX3_sendLine_4 0 rfl rfl)
theorem dX3_sendLine_97 : decode cX3_sendLine 97 = .ok (.aload_n 1, 1) := dk_43 (dk_at dksX3_sendLine_4 3 rfl rfl)
theorem dX3_sendLine_98 : decode cX3_sendLine 98 = .ok (.invokevirtual 152, 3) := dk_182 0 152 (dk_at dksX3_sendLine_4 4 rfl rfl)
theorem dX3_sendLine_101 : decode cX3_sendLine 101 = .ok (.istore_n 2, 1) := dk_61 (dk_at dksX3_sendLine_4 7 rfl rfl)
theorem dX3_sendLine_102 : decode cX3_sendLine 102 = .ok (.aload_n 0, 1) := dk_42 (dk_at dksX3_sendLine_4 8 rfl rfl)
theorem dX3_sendLine_103 : decode cX3_sendLine 103 = .ok (.invokevirtual 34, 3) := dk_182 0 34 (dk_at dksX3_sendLine_4 9 rfl rfl)
theorem dX3_sendLine_106 : decode cX3_sendLine 106 = .ok (.return_, 1) := dk_177 (dk_at dksX3_sendLine_4 12 rfl rfl)
abbrev cX3_mendLine : ByteArray := prog_6_method_11_code
def yX3_mendLine : MethodName := ⟨RX3, "mendLine", "()V"⟩
def dkwX3_mendLine_2 : List UInt8 := [180, 0, 135, 29, 3, 84, 42, 182, 0, 34, 177]
abbrev dktX3_mendLine_2 : List UInt8 := dkwX3_mendLine_2 ++ []
def dkwX3_mendLine_1 : List UInt8 := [42, 42, 180, 0, 102, 180, 0, 122, 180, 0, 135, 29, 51, 6, 182, 0, 95, 42, 180, 0, 102, 180, 0, 122]
abbrev dktX3_mendLine_1 : List UInt8 := dkwX3_mendLine_1 ++ dktX3_mendLine_2
def dkwX3_mendLine_0 : List UInt8 := [42, 182, 0, 114, 60, 42, 3, 5, 182, 0, 111, 61, 27, 28, 42, 3, 5, 182, 0, 99, 184, 0, 118, 62]
abbrev dktX3_mendLine_0 : List UInt8 := dkwX3_mendLine_0 ++ dktX3_mendLine_1
theorem dksX3_mendLine_0 : cX3_mendLine.data.toList.drop 0 = dktX3_mendLine_0 := by decide +kernel
theorem dksX3_mendLine_1 : cX3_mendLine.data.toList.drop 24 = dktX3_mendLine_1 := dk_seg dksX3_mendLine_0 24 rfl rfl
theorem dksX3_mendLine_2 : cX3_mendLine.data.toList.drop 48 = dktX3_mendLine_2 := dk_seg dksX3_mendLine_1 24 rfl rfl
theorem dX3_mendLine_0 : decode cX3_mendLine 0 = .ok (.aload_n 0, 1) := dk_42 (dk_at dksX3_mendLine_0 0 rfl rfl)
theorem dX3_mendLine_1 : decode cX3_mendLine 1 = .ok (.invokevirtual 114, 3) := dk_182 0 114 (dk_at dksX3_mendLine_0 1 rfl rfl)
theorem dX3_mendLine_4 : decode cX3_mendLine 4 = .ok (.istore_n 1, 1) := dk_60 (dk_at dksX3_mendLine_0 4 rfl rfl)
theorem dX3_mendLine_5 : decode cX3_mendLine 5 = .ok (.aload_n 0, 1) := dk_42 (dk_at dksX3_mendLine_0 5 rfl rfl)
theorem dX3_mendLine_6 : decode cX3_mendLine 6 = .ok (.iconst 0, 1) := dk_3 (dk_at dksX3_mendLine_0 6 rfl rfl)
theorem dX3_mendLine_7 : decode cX3_mendLine 7 = .ok (.iconst 2, 1) := dk_5 (dk_at dksX3_mendLine_0 7 rfl rfl)
theorem dX3_mendLine_8 : decode cX3_mendLine 8 = .ok (.invokevirtual 111, 3) := dk_182 0 111 (dk_at dksX3_mendLine_0 8 rfl rfl)
theorem dX3_mendLine_11 : decode cX3_mendLine 11 = .ok (.istore_n 2, 1) := dk_61 (dk_at dksX3_mendLine_0 11 rfl rfl)
theorem dX3_mendLine_12 : decode cX3_mendLine 12 = .ok (.iload_n 1, 1) := dk_27 (dk_at dksX3_mendLine_0 12 rfl rfl)
theorem dX3_mendLine_13 : decode cX3_mendLine 13 = .ok (.iload_n 2, 1) := dk_28 (dk_at dksX3_mendLine_0 13 rfl rfl)
theorem dX3_mendLine_14 : decode cX3_mendLine 14 = .ok (.aload_n 0, 1) := dk_42 (dk_at dksX3_mendLine_0 14 rfl rfl)
theorem dX3_mendLine_15 : decode cX3_mendLine 15 = .ok (.iconst 0, 1) := dk_3 (dk_at dksX3_mendLine_0 15 rfl rfl)
theorem dX3_mendLine_16 : decode cX3_mendLine 16 = .ok (.iconst 2, 1) := dk_5 (dk_at dksX3_mendLine_0 16 rfl rfl)
theorem dX3_mendLine_17 : decode cX3_mendLine 17 = .ok (.invokevirtual 99, 3) := dk_182 0 99 (dk_at dksX3_mendLine_0 17 rfl rfl)
theorem dX3_mendLine_20 : decode cX3_mendLine 20 = .ok (.invokestatic 118, 3) := dk_184 0 118 (dk_at dksX3_mendLine_0 20 rfl rfl)
theorem dX3_mendLine_23 : decode cX3_mendLine 23 = .ok (.istore_n 3, 1) := dk_62 (dk_at dksX3_mendLine_0 23 rfl rfl)
theorem dX3_mendLine_24 : decode cX3_mendLine 24 = .ok (.aload_n 0, 1) := dk_42 (dk_at dksX3_mendLine_1 0 rfl rfl)
theorem dX3_mendLine_25 : decode cX3_mendLine 25 = .ok (.aload_n 0, 1) := dk_42 (dk_at dksX3_mendLine_1 1 rfl rfl)
theorem dX3_mendLine_26 : decode cX3_mendLine 26 = .ok (.getfield 102, 3) := dk_180 0 102 (dk_at dksX3_mendLine_1 2 rfl rfl)
theorem dX3_mendLine_29 : decode cX3_mendLine 29 = .ok (.getfield 122, 3) := dk_180 0 122 (dk_at dksX3_mendLine_1 5 rfl rfl)
theorem dX3_mendLine_32 : decode cX3_mendLine 32 = .ok (.getfield 135, 3) := dk_180 0 135 (dk_at dksX3_mendLine_1 8 rfl rfl)
theorem dX3_mendLine_35 : decode cX3_mendLine 35 = .ok (.iload_n 3, 1) := dk_29 (dk_at dksX3_mendLine_1 11 rfl rfl)
theorem dX3_mendLine_36 : decode cX3_mendLine 36 = .ok (.baload, 1) := dk_51 (dk_at dksX3_mendLine_1 12 rfl rfl)
theorem dX3_mendLine_37 : decode cX3_mendLine 37 = .ok (.iconst 3, 1) := dk_6 (dk_at dksX3_mendLine_1 13 rfl rfl)
theorem dX3_mendLine_38 : decode cX3_mendLine 38 = .ok (.invokevirtual 95, 3) := dk_182 0 95 (dk_at dksX3_mendLine_1 14 rfl rfl)
theorem dX3_mendLine_41 : decode cX3_mendLine 41 = .ok (.aload_n 0, 1) := dk_42 (dk_at dksX3_mendLine_1 17 rfl rfl)
theorem dX3_mendLine_42 : decode cX3_mendLine 42 = .ok (.getfield 102, 3) := dk_180 0 102 (dk_at dksX3_mendLine_1 18 rfl rfl)
theorem dX3_mendLine_45 : decode cX3_mendLine 45 = .ok (.getfield 122, 3) := dk_180 0 122 (dk_at dksX3_mendLine_1 21 rfl rfl)
theorem dX3_mendLine_48 : decode cX3_mendLine 48 = .ok (.getfield 135, 3) := dk_180 0 135 (dk_at dksX3_mendLine_2 0 rfl rfl)
theorem dX3_mendLine_51 : decode cX3_mendLine 51 = .ok (.iload_n 3, 1) := dk_29 (dk_at dksX3_mendLine_2 3 rfl rfl)
theorem dX3_mendLine_52 : decode cX3_mendLine 52 = .ok (.iconst 0, 1) := dk_3 (dk_at dksX3_mendLine_2 4 rfl rfl)
theorem dX3_mendLine_53 : decode cX3_mendLine 53 = .ok (.bastore, 1) := dk_84 (dk_at dksX3_mendLine_2 5 rfl rfl)
theorem dX3_mendLine_54 : decode cX3_mendLine 54 = .ok (.aload_n 0, 1) := dk_42 (dk_at dksX3_mendLine_2 6 rfl rfl)
theorem dX3_mendLine_55 : decode cX3_mendLine 55 = .ok (.invokevirtual 34, 3) := dk_182 0 34 (dk_at dksX3_mendLine_2 7 rfl rfl)
theorem dX3_mendLine_58 : decode cX3_mendLine 58 = .ok (.return_, 1) := dk_177 (dk_at dksX3_mendLine_2 10 rfl rfl)
abbrev cX3_sameLine : ByteArray := prog_6_method_12_code
def yX3_sameLine : MethodName := ⟨RX3, "sameLine", "()V"⟩
def dkwX3_sameLine_2 : List UInt8 := [182, 0, 111, 184, 0, 148, 182, 0, 152, 61, 177]
abbrev dktX3_sameLine_2 : List UInt8 := dkwX3_sameLine_2 ++ []
def dkwX3_sameLine_1 : List UInt8 := [182, 0, 95, 42, 182, 0, 34, 42, 3, 16, 9, 182, 0, 111, 60, 42, 180, 0, 102, 27, 42, 4, 16, 12]
abbrev dktX3_sameLine_1 : List UInt8 := dkwX3_sameLine_1 ++ dktX3_sameLine_2
def dkwX3_sameLine_0 : List UInt8 := [42, 42, 180, 0, 102, 180, 0, 139, 185, 0, 143, 1, 0, 16, 6, 162, 0, 7, 4, 167, 0, 4, 3, 6]
abbrev dktX3_sameLine_0 : List UInt8 := dkwX3_sameLine_0 ++ dktX3_sameLine_1
theorem dksX3_sameLine_0 : cX3_sameLine.data.toList.drop 0 = dktX3_sameLine_0 := by decide +kernel
theorem dksX3_sameLine_1 : cX3_sameLine.data.toList.drop 24 = dktX3_sameLine_1 := dk_seg dksX3_sameLine_0 24 rfl rfl
theorem dksX3_sameLine_2 : cX3_sameLine.data.toList.drop 48 = dktX3_sameLine_2 := dk_seg dksX3_sameLine_1 24 rfl rfl
theorem dX3_sameLine_0 : decode cX3_sameLine 0 = .ok (.aload_n 0, 1) := dk_42 (dk_at dksX3_sameLine_0 0 rfl rfl)
theorem dX3_sameLine_1 : decode cX3_sameLine 1 = .ok (.aload_n 0, 1) := dk_42 (dk_at dksX3_sameLine_0 1 rfl rfl)
theorem dX3_sameLine_2 : decode cX3_sameLine 2 = .ok (.getfield 102, 3) := dk_180 0 102 (dk_at dksX3_sameLine_0 2 rfl rfl)
theorem dX3_sameLine_5 : decode cX3_sameLine 5 = .ok (.getfield 139, 3) := dk_180 0 139 (dk_at dksX3_sameLine_0 5 rfl rfl)
theorem dX3_sameLine_8 : decode cX3_sameLine 8 = .ok (.invokeinterface 143 1, 5) := by decide +kernel
theorem dX3_sameLine_13 : decode cX3_sameLine 13 = .ok (.bipush 6, 2) := dk_16 6 (dk_at dksX3_sameLine_0 13 rfl rfl)
theorem dX3_sameLine_15 : decode cX3_sameLine 15 = .ok (.if_icmp .ge 7, 3) := dk_162 0 7 (dk_at dksX3_sameLine_0 15 rfl rfl)
theorem dX3_sameLine_18 : decode cX3_sameLine 18 = .ok (.iconst 1, 1) := dk_4 (dk_at dksX3_sameLine_0 18 rfl rfl)
theorem dX3_sameLine_19 : decode cX3_sameLine 19 = .ok (.goto 4, 3) := dk_167 0 4 (dk_at dksX3_sameLine_0 19 rfl rfl)
theorem dX3_sameLine_22 : decode cX3_sameLine 22 = .ok (.iconst 0, 1) := dk_3 (dk_at dksX3_sameLine_0 22 rfl rfl)
theorem dX3_sameLine_23 : decode cX3_sameLine 23 = .ok (.iconst 3, 1) := dk_6 (dk_at dksX3_sameLine_0 23 rfl rfl)
theorem dX3_sameLine_24 : decode cX3_sameLine 24 = .ok (.invokevirtual 95, 3) := dk_182 0 95 (dk_at dksX3_sameLine_1 0 rfl rfl)
theorem dX3_sameLine_27 : decode cX3_sameLine 27 = .ok (.aload_n 0, 1) := dk_42 (dk_at dksX3_sameLine_1 3 rfl rfl)
theorem dX3_sameLine_28 : decode cX3_sameLine 28 = .ok (.invokevirtual 34, 3) := dk_182 0 34 (dk_at dksX3_sameLine_1 4 rfl rfl)
theorem dX3_sameLine_31 : decode cX3_sameLine 31 = .ok (.aload_n 0, 1) := dk_42 (dk_at dksX3_sameLine_1 7 rfl rfl)
theorem dX3_sameLine_32 : decode cX3_sameLine 32 = .ok (.iconst 0, 1) := dk_3 (dk_at dksX3_sameLine_1 8 rfl rfl)
theorem dX3_sameLine_33 : decode cX3_sameLine 33 = .ok (.bipush 9, 2) := dk_16 9 (dk_at dksX3_sameLine_1 9 rfl rfl)
theorem dX3_sameLine_35 : decode cX3_sameLine 35 = .ok (.invokevirtual 111, 3) := dk_182 0 111 (dk_at dksX3_sameLine_1 11 rfl rfl)
theorem dX3_sameLine_38 : decode cX3_sameLine 38 = .ok (.istore_n 1, 1) := dk_60 (dk_at dksX3_sameLine_1 14 rfl rfl)
theorem dX3_sameLine_39 : decode cX3_sameLine 39 = .ok (.aload_n 0, 1) := dk_42 (dk_at dksX3_sameLine_1 15 rfl rfl)
theorem dX3_sameLine_40 : decode cX3_sameLine 40 = .ok (.getfield 102, 3) := dk_180 0 102 (dk_at dksX3_sameLine_1 16 rfl rfl)
theorem dX3_sameLine_43 : decode cX3_sameLine 43 = .ok (.iload_n 1, 1) := dk_27 (dk_at dksX3_sameLine_1 19 rfl rfl)
theorem dX3_sameLine_44 : decode cX3_sameLine 44 = .ok (.aload_n 0, 1) := dk_42 (dk_at dksX3_sameLine_1 20 rfl rfl)
theorem dX3_sameLine_45 : decode cX3_sameLine 45 = .ok (.iconst 1, 1) := dk_4 (dk_at dksX3_sameLine_1 21 rfl rfl)
theorem dX3_sameLine_46 : decode cX3_sameLine 46 = .ok (.bipush 12, 2) := dk_16 12 (dk_at dksX3_sameLine_1 22 rfl rfl)
theorem dX3_sameLine_48 : decode cX3_sameLine 48 = .ok (.invokevirtual 111, 3) := dk_182 0 111 (dk_at dksX3_sameLine_2 0 rfl rfl)
theorem dX3_sameLine_51 : decode cX3_sameLine 51 = .ok (.invokestatic 148, 3) := dk_184 0 148 (dk_at dksX3_sameLine_2 3 rfl rfl)
theorem dX3_sameLine_54 : decode cX3_sameLine 54 = .ok (.invokevirtual 152, 3) := dk_182 0 152 (dk_at dksX3_sameLine_2 6 rfl rfl)
theorem dX3_sameLine_57 : decode cX3_sameLine 57 = .ok (.istore_n 2, 1) := dk_61 (dk_at dksX3_sameLine_2 9 rfl rfl)
theorem dX3_sameLine_58 : decode cX3_sameLine 58 = .ok (.return_, 1) := dk_177 (dk_at dksX3_sameLine_2 10 rfl rfl)
abbrev cX3_dropLine : ByteArray := prog_6_method_13_code
def yX3_dropLine : MethodName := ⟨RX3, "dropLine", "()V"⟩
def dkwX3_dropLine_2 : List UInt8 := [182, 0, 95, 42, 180, 0, 102, 27, 182, 0, 165, 42, 182, 0, 34, 177]
abbrev dktX3_dropLine_2 : List UInt8 := dkwX3_dropLine_2 ++ []
def dkwX3_dropLine_1 : List UInt8 := [42, 42, 180, 0, 102, 27, 182, 0, 156, 180, 0, 160, 2, 159, 0, 7, 4, 167, 0, 4, 3, 6]
abbrev dktX3_dropLine_1 : List UInt8 := dkwX3_dropLine_1 ++ dktX3_dropLine_2
def dkwX3_dropLine_0 : List UInt8 := [42, 182, 0, 34, 42, 3, 42, 180, 0, 102, 180, 0, 139, 185, 0, 143, 1, 0, 4, 100, 182, 0, 99, 60]
abbrev dktX3_dropLine_0 : List UInt8 := dkwX3_dropLine_0 ++ dktX3_dropLine_1
theorem dksX3_dropLine_0 : cX3_dropLine.data.toList.drop 0 = dktX3_dropLine_0 := by decide +kernel
theorem dksX3_dropLine_1 : cX3_dropLine.data.toList.drop 24 = dktX3_dropLine_1 := dk_seg dksX3_dropLine_0 24 rfl rfl
theorem dksX3_dropLine_2 : cX3_dropLine.data.toList.drop 46 = dktX3_dropLine_2 := dk_seg dksX3_dropLine_1 22 rfl rfl
theorem dX3_dropLine_0 : decode cX3_dropLine 0 = .ok (.aload_n 0, 1) := dk_42 (dk_at dksX3_dropLine_0 0 rfl rfl)
theorem dX3_dropLine_1 : decode cX3_dropLine 1 = .ok (.invokevirtual 34, 3) := dk_182 0 34 (dk_at dksX3_dropLine_0 1 rfl rfl)
theorem dX3_dropLine_4 : decode cX3_dropLine 4 = .ok (.aload_n 0, 1) := dk_42 (dk_at dksX3_dropLine_0 4 rfl rfl)
theorem dX3_dropLine_5 : decode cX3_dropLine 5 = .ok (.iconst 0, 1) := dk_3 (dk_at dksX3_dropLine_0 5 rfl rfl)
theorem dX3_dropLine_6 : decode cX3_dropLine 6 = .ok (.aload_n 0, 1) := dk_42 (dk_at dksX3_dropLine_0 6 rfl rfl)
theorem dX3_dropLine_7 : decode cX3_dropLine 7 = .ok (.getfield 102, 3) := dk_180 0 102 (dk_at dksX3_dropLine_0 7 rfl rfl)
theorem dX3_dropLine_10 : decode cX3_dropLine 10 = .ok (.getfield 139, 3) := dk_180 0 139 (dk_at dksX3_dropLine_0 10 rfl rfl)
theorem dX3_dropLine_13 : decode cX3_dropLine 13 = .ok (.invokeinterface 143 1, 5) := by decide +kernel
theorem dX3_dropLine_18 : decode cX3_dropLine 18 = .ok (.iconst 1, 1) := dk_4 (dk_at dksX3_dropLine_0 18 rfl rfl)
theorem dX3_dropLine_19 : decode cX3_dropLine 19 = .ok (.isub, 1) := dk_100 (dk_at dksX3_dropLine_0 19 rfl rfl)
theorem dX3_dropLine_20 : decode cX3_dropLine 20 = .ok (.invokevirtual 99, 3) := dk_182 0 99 (dk_at dksX3_dropLine_0 20 rfl rfl)
theorem dX3_dropLine_23 : decode cX3_dropLine 23 = .ok (.istore_n 1, 1) := dk_60 (dk_at dksX3_dropLine_0 23 rfl rfl)
theorem dX3_dropLine_24 : decode cX3_dropLine 24 = .ok (.aload_n 0, 1) := dk_42 (dk_at dksX3_dropLine_1 0 rfl rfl)
theorem dX3_dropLine_25 : decode cX3_dropLine 25 = .ok (.aload_n 0, 1) := dk_42 (dk_at dksX3_dropLine_1 1 rfl rfl)
theorem dX3_dropLine_26 : decode cX3_dropLine 26 = .ok (.getfield 102, 3) := dk_180 0 102 (dk_at dksX3_dropLine_1 2 rfl rfl)
theorem dX3_dropLine_29 : decode cX3_dropLine 29 = .ok (.iload_n 1, 1) := dk_27 (dk_at dksX3_dropLine_1 5 rfl rfl)
theorem dX3_dropLine_30 : decode cX3_dropLine 30 = .ok (.invokevirtual 156, 3) := dk_182 0 156 (dk_at dksX3_dropLine_1 6 rfl rfl)
theorem dX3_dropLine_33 : decode cX3_dropLine 33 = .ok (.getfield 160, 3) := dk_180 0 160 (dk_at dksX3_dropLine_1 9 rfl rfl)
theorem dX3_dropLine_36 : decode cX3_dropLine 36 = .ok (.iconst (-1), 1) := dk_2 (dk_at dksX3_dropLine_1 12 rfl rfl)
theorem dX3_dropLine_37 : decode cX3_dropLine 37 = .ok (.if_icmp .eq 7, 3) := dk_159 0 7 (dk_at dksX3_dropLine_1 13 rfl rfl)
theorem dX3_dropLine_40 : decode cX3_dropLine 40 = .ok (.iconst 1, 1) := dk_4 (dk_at dksX3_dropLine_1 16 rfl rfl)
theorem dX3_dropLine_41 : decode cX3_dropLine 41 = .ok (.goto 4, 3) := dk_167 0 4 (dk_at dksX3_dropLine_1 17 rfl rfl)
theorem dX3_dropLine_44 : decode cX3_dropLine 44 = .ok (.iconst 0, 1) := dk_3 (dk_at dksX3_dropLine_1 20 rfl rfl)
theorem dX3_dropLine_45 : decode cX3_dropLine 45 = .ok (.iconst 3, 1) := dk_6 (dk_at dksX3_dropLine_1 21 rfl rfl)
theorem dX3_dropLine_46 : decode cX3_dropLine 46 = .ok (.invokevirtual 95, 3) := dk_182 0 95 (dk_at dksX3_dropLine_2 0 rfl rfl)
theorem dX3_dropLine_49 : decode cX3_dropLine 49 = .ok (.aload_n 0, 1) := dk_42 (dk_at dksX3_dropLine_2 3 rfl rfl)
theorem dX3_dropLine_50 : decode cX3_dropLine 50 = .ok (.getfield 102, 3) := dk_180 0 102 (dk_at dksX3_dropLine_2 4 rfl rfl)
theorem dX3_dropLine_53 : decode cX3_dropLine 53 = .ok (.iload_n 1, 1) := dk_27 (dk_at dksX3_dropLine_2 7 rfl rfl)
theorem dX3_dropLine_54 : decode cX3_dropLine 54 = .ok (.invokevirtual 165, 3) := dk_182 0 165 (dk_at dksX3_dropLine_2 8 rfl rfl)
theorem dX3_dropLine_57 : decode cX3_dropLine 57 = .ok (.aload_n 0, 1) := dk_42 (dk_at dksX3_dropLine_2 11 rfl rfl)
theorem dX3_dropLine_58 : decode cX3_dropLine 58 = .ok (.invokevirtual 34, 3) := dk_182 0 34 (dk_at dksX3_dropLine_2 12 rfl rfl)
theorem dX3_dropLine_61 : decode cX3_dropLine 61 = .ok (.return_, 1) := dk_177 (dk_at dksX3_dropLine_2 15 rfl rfl)
theorem q146 : (Jvm.Cond.initialized "VotingHuts$Parser") ∈ lw_all := lw_g (lw_at lw_m1 14 rfl) rfl
theorem q234 : (Jvm.Cond.fieldLinkNest "VotingHuts$Parser" (37 : Nat) "VotingHuts" "buffer" "[B" "VotingHuts") ∈ lw_tbl := lw_at lw_m1 102 rfl
theorem q403 : (Jvm.Cond.instantiable "VotingHuts$Parser" (7 : Nat)) ∈ lw_all := lw_g (lw_at lw_m2 31 rfl) rfl
theorem q405 : (Jvm.Cond.instanceMethod ({ cls := "VotingHuts$Parser", name := "<init>", desc := "(LVotingHuts;I)V" } : Jvm.MethodName)) ∈ lw_all := lw_g (lw_at lw_m2 33 rfl) rfl
theorem q406 : (Jvm.Cond.code ({ cls := "VotingHuts$Parser", name := "<init>", desc := "(LVotingHuts;I)V" } : Jvm.MethodName) prog_6_method_1_code (3 : Nat) (Option.none : Option Jvm.ClassFile.FieldType)) ∈ lw_all := lw_g (lw_at lw_m2 34 rfl) rfl
theorem q407 : (Jvm.Cond.methodLink "VotingHuts$Parser" (9 : Nat) ({ cls := "java/lang/Object", name := "<init>", desc := "()V" } : Jvm.MethodName)) ∈ lw_all := lw_g (lw_at lw_m2 35 rfl) rfl
theorem q408 : (Jvm.Cond.fieldLink "VotingHuts$Parser" (15 : Nat) "VotingHuts$Sort" "END" "LVotingHuts$Sort;") ∈ lw_all := lw_g (lw_at lw_m2 36 rfl) rfl
theorem q410 : (Jvm.Cond.stringRef "VotingHuts$Parser" (24 : Nat) "") ∈ lw_tbl := lw_at lw_m2 38 rfl
theorem q411 : (Jvm.Cond.methodLink "VotingHuts$Parser" (34 : Nat) ({ cls := "VotingHuts$Parser", name := "step", desc := "()V" } : Jvm.MethodName)) ∈ lw_all := lw_g (lw_at lw_m2 39 rfl) rfl
theorem q412 : (Jvm.Cond.privateMethod ({ cls := "VotingHuts$Parser", name := "step", desc := "()V" } : Jvm.MethodName)) ∈ lw_tbl := lw_at lw_m2 40 rfl
theorem q413 : (Jvm.Cond.instanceMethod ({ cls := "VotingHuts$Parser", name := "step", desc := "()V" } : Jvm.MethodName)) ∈ lw_all := lw_g (lw_at lw_m2 41 rfl) rfl
theorem q414 : (Jvm.Cond.code ({ cls := "VotingHuts$Parser", name := "step", desc := "()V" } : Jvm.MethodName) prog_6_method_4_code (4 : Nat) (Option.none : Option Jvm.ClassFile.FieldType)) ∈ lw_all := lw_g (lw_at lw_m2 42 rfl) rfl
theorem q415 : (Jvm.Cond.methodLink "VotingHuts$Parser" (44 : Nat) ({ cls := "VotingHuts$Parser", name := "at", desc := "(I)I" } : Jvm.MethodName)) ∈ lw_all := lw_g (lw_at lw_m2 43 rfl) rfl
theorem q416 : (Jvm.Cond.privateMethod ({ cls := "VotingHuts$Parser", name := "at", desc := "(I)I" } : Jvm.MethodName)) ∈ lw_tbl := lw_at lw_m2 44 rfl
theorem q417 : (Jvm.Cond.instanceMethod ({ cls := "VotingHuts$Parser", name := "at", desc := "(I)I" } : Jvm.MethodName)) ∈ lw_all := lw_g (lw_at lw_m2 45 rfl) rfl
theorem q418 : (Jvm.Cond.code ({ cls := "VotingHuts$Parser", name := "at", desc := "(I)I" } : Jvm.MethodName) prog_6_method_2_code (2 : Nat) (Option.some Jvm.ClassFile.FieldType.int)) ∈ lw_all := lw_g (lw_at lw_m2 46 rfl) rfl
theorem q419 : (Jvm.Cond.constantLong "VotingHuts$Parser" (55 : Nat) (97 : Int64)) ∈ lw_all := lw_g (lw_at lw_m2 47 rfl) rfl
theorem q420 : (Jvm.Cond.constantLong "VotingHuts$Parser" (57 : Nat) (122 : Int64)) ∈ lw_all := lw_g (lw_at lw_m2 48 rfl) rfl
theorem q421 : (Jvm.Cond.methodLinkNest "VotingHuts$Parser" (48 : Nat) ({ cls := "VotingHuts", name := "in", desc := "(JJJ)Z" } : Jvm.MethodName) "VotingHuts") ∈ lw_tbl := lw_at lw_m2 49 rfl
theorem q422 : (Jvm.Cond.methodLink "VotingHuts$Parser" (59 : Nat) ({ cls := "VotingHuts$Parser", name := "run", desc := "(II)I" } : Jvm.MethodName)) ∈ lw_all := lw_g (lw_at lw_m2 50 rfl) rfl
theorem q423 : (Jvm.Cond.privateMethod ({ cls := "VotingHuts$Parser", name := "run", desc := "(II)I" } : Jvm.MethodName)) ∈ lw_tbl := lw_at lw_m2 51 rfl
theorem q424 : (Jvm.Cond.instanceMethod ({ cls := "VotingHuts$Parser", name := "run", desc := "(II)I" } : Jvm.MethodName)) ∈ lw_all := lw_g (lw_at lw_m2 52 rfl) rfl
theorem q425 : (Jvm.Cond.code ({ cls := "VotingHuts$Parser", name := "run", desc := "(II)I" } : Jvm.MethodName) prog_6_method_3_code (4 : Nat) (Option.some Jvm.ClassFile.FieldType.int)) ∈ lw_all := lw_g (lw_at lw_m2 53 rfl) rfl
theorem q426 : (Jvm.Cond.fieldLink "VotingHuts$Parser" (63 : Nat) "VotingHuts$Sort" "WORD" "LVotingHuts$Sort;") ∈ lw_all := lw_g (lw_at lw_m2 54 rfl) rfl
theorem q428 : (Jvm.Cond.fieldLink "VotingHuts$Parser" (66 : Nat) "VotingHuts$Sort" "BAD" "LVotingHuts$Sort;") ∈ lw_all := lw_g (lw_at lw_m2 56 rfl) rfl
theorem q430 : (Jvm.Cond.classLink "VotingHuts$Parser" (69 : Nat) "java/lang/StringBuilder") ∈ lw_all := lw_g (lw_at lw_m2 58 rfl) rfl
theorem q431 : (Jvm.Cond.methodLink "VotingHuts$Parser" (71 : Nat) ({ cls := "java/lang/StringBuilder", name := "<init>", desc := "()V" } : Jvm.MethodName)) ∈ lw_all := lw_g (lw_at lw_m2 59 rfl) rfl
theorem q432 : (Jvm.Cond.methodLink "VotingHuts$Parser" (72 : Nat) ({ cls := "java/lang/StringBuilder", name := "append", desc := "(C)Ljava/lang/StringBuilder;" } : Jvm.MethodName)) ∈ lw_all := lw_g (lw_at lw_m2 60 rfl) rfl
theorem q527 : (Jvm.Cond.methodLink "VotingHuts$Parser" (76 : Nat) ({ cls := "java/lang/StringBuilder", name := "toString", desc := "()Ljava/lang/String;" } : Jvm.MethodName)) ∈ lw_all := lw_g (lw_at lw_m2 155 rfl) rfl
theorem q675 : (Jvm.Cond.constantLong "VotingHuts$Parser" (80 : Nat) (48 : Int64)) ∈ lw_all := lw_g (lw_at lw_m3 63 rfl) rfl
theorem q676 : (Jvm.Cond.constantLong "VotingHuts$Parser" (82 : Nat) (57 : Int64)) ∈ lw_all := lw_g (lw_at lw_m3 64 rfl) rfl
theorem q677 : (Jvm.Cond.fieldLink "VotingHuts$Parser" (84 : Nat) "VotingHuts$Sort" "DIGITS" "LVotingHuts$Sort;") ∈ lw_all := lw_g (lw_at lw_m3 65 rfl) rfl
theorem q679 : (Jvm.Cond.fieldLink "VotingHuts$Parser" (87 : Nat) "VotingHuts$Sort" "SEMICOLON" "LVotingHuts$Sort;") ∈ lw_all := lw_g (lw_at lw_m3 67 rfl) rfl
theorem q681 : (Jvm.Cond.fieldLink "VotingHuts$Parser" (30 : Nat) "VotingHuts$Parser" "length" "I") ∈ lw_all := lw_g (lw_at lw_m3 69 rfl) rfl
theorem q682 : (Jvm.Cond.fieldLink "VotingHuts$Parser" (52 : Nat) "VotingHuts$Parser" "next" "I") ∈ lw_all := lw_g (lw_at lw_m3 70 rfl) rfl
theorem q683 : (Jvm.Cond.fieldLink "VotingHuts$Parser" (41 : Nat) "VotingHuts$Parser" "begin" "I") ∈ lw_all := lw_g (lw_at lw_m3 71 rfl) rfl
theorem q684 : (Jvm.Cond.fieldLink "VotingHuts$Parser" (21 : Nat) "VotingHuts$Parser" "sort" "LVotingHuts$Sort;") ∈ lw_all := lw_g (lw_at lw_m3 72 rfl) rfl
theorem q685 : (Jvm.Cond.fieldLink "VotingHuts$Parser" (26 : Nat) "VotingHuts$Parser" "word" "Ljava/lang/String;") ∈ lw_all := lw_g (lw_at lw_m3 73 rfl) rfl
theorem q686 : (Jvm.Cond.fieldLink "VotingHuts$Parser" (102 : Nat) "VotingHuts$Parser" "made" "LVotingHuts$World;") ∈ lw_all := lw_g (lw_at lw_m3 74 rfl) rfl
theorem q687 : (Jvm.Cond.fieldLink "VotingHuts$Parser" (3 : Nat) "VotingHuts$Parser" "this$0" "LVotingHuts;") ∈ lw_all := lw_g (lw_at lw_m3 75 rfl) rfl
theorem q688 : (Jvm.Cond.laysFinal "VotingHuts$Parser" "VotingHuts$Parser" "length" "I") ∈ lw_all := lw_g (lw_at lw_m3 76 rfl) rfl
theorem q689 : (Jvm.Cond.soleField "VotingHuts$Parser" "length") ∈ lw_all := lw_g (lw_at lw_m3 77 rfl) rfl
theorem q690 : (Jvm.Cond.lays "VotingHuts$Parser" "VotingHuts$Parser" "next" "I") ∈ lw_all := lw_g (lw_at lw_m3 78 rfl) rfl
theorem q691 : (Jvm.Cond.soleField "VotingHuts$Parser" "next") ∈ lw_all := lw_g (lw_at lw_m3 79 rfl) rfl
theorem q692 : (Jvm.Cond.lays "VotingHuts$Parser" "VotingHuts$Parser" "begin" "I") ∈ lw_all := lw_g (lw_at lw_m3 80 rfl) rfl
theorem q693 : (Jvm.Cond.soleField "VotingHuts$Parser" "begin") ∈ lw_all := lw_g (lw_at lw_m3 81 rfl) rfl
theorem q694 : (Jvm.Cond.lays "VotingHuts$Parser" "VotingHuts$Parser" "sort" "LVotingHuts$Sort;") ∈ lw_all := lw_g (lw_at lw_m3 82 rfl) rfl
theorem q695 : (Jvm.Cond.soleField "VotingHuts$Parser" "sort") ∈ lw_all := lw_g (lw_at lw_m3 83 rfl) rfl
theorem q696 : (Jvm.Cond.lays "VotingHuts$Parser" "VotingHuts$Parser" "word" "Ljava/lang/String;") ∈ lw_all := lw_g (lw_at lw_m3 84 rfl) rfl
theorem q697 : (Jvm.Cond.soleField "VotingHuts$Parser" "word") ∈ lw_all := lw_g (lw_at lw_m3 85 rfl) rfl
theorem q698 : (Jvm.Cond.lays "VotingHuts$Parser" "VotingHuts$Parser" "made" "LVotingHuts$World;") ∈ lw_all := lw_g (lw_at lw_m3 86 rfl) rfl
theorem q699 : (Jvm.Cond.soleField "VotingHuts$Parser" "made") ∈ lw_all := lw_g (lw_at lw_m3 87 rfl) rfl
theorem q700 : (Jvm.Cond.laysFinal "VotingHuts$Parser" "VotingHuts$Parser" "this$0" "LVotingHuts;") ∈ lw_all := lw_g (lw_at lw_m3 88 rfl) rfl
theorem q701 : (Jvm.Cond.soleField "VotingHuts$Parser" "this$0") ∈ lw_all := lw_g (lw_at lw_m3 89 rfl) rfl
theorem q702 : (Jvm.Cond.superclass "VotingHuts$Parser" "java/lang/Object") ∈ lw_all := lw_g (lw_at lw_m3 90 rfl) rfl
theorem q704 : (Jvm.Cond.instanceMethod ({ cls := "VotingHuts$Parser", name := "parse", desc := "()LVotingHuts$World;" } : Jvm.MethodName)) ∈ lw_all := lw_g (lw_at lw_m3 92 rfl) rfl
theorem q705 : (Jvm.Cond.selects "VotingHuts$Parser" ({ cls := "VotingHuts$Parser", name := "parse", desc := "()LVotingHuts$World;" } : Jvm.MethodName) ({ cls := "VotingHuts$Parser", name := "parse", desc := "()LVotingHuts$World;" } : Jvm.MethodName)) ∈ lw_all := lw_g (lw_at lw_m3 93 rfl) rfl
theorem q706 : (Jvm.Cond.code ({ cls := "VotingHuts$Parser", name := "parse", desc := "()LVotingHuts$World;" } : Jvm.MethodName) prog_6_method_16_code (2 : Nat) (Option.some (Jvm.ClassFile.FieldType.object "VotingHuts$World"))) ∈ lw_all := lw_g (lw_at lw_m3 94 rfl) rfl
theorem q707 : (Jvm.Cond.stringRef "VotingHuts$Parser" (220 : Nat) "huts") ∈ lw_tbl := lw_at lw_m3 95 rfl
theorem q708 : (Jvm.Cond.methodLink "VotingHuts$Parser" (175 : Nat) ({ cls := "java/lang/String", name := "equals", desc := "(Ljava/lang/Object;)Z" } : Jvm.MethodName)) ∈ lw_all := lw_g (lw_at lw_m3 96 rfl) rfl
theorem q716 : (Jvm.Cond.methodLink "VotingHuts$Parser" (95 : Nat) ({ cls := "VotingHuts$Parser", name := "check", desc := "(ZI)V" } : Jvm.MethodName)) ∈ lw_all := lw_g (lw_at lw_m3 104 rfl) rfl
theorem q717 : (Jvm.Cond.privateMethod ({ cls := "VotingHuts$Parser", name := "check", desc := "(ZI)V" } : Jvm.MethodName)) ∈ lw_tbl := lw_at lw_m3 105 rfl
theorem q718 : (Jvm.Cond.instanceMethod ({ cls := "VotingHuts$Parser", name := "check", desc := "(ZI)V" } : Jvm.MethodName)) ∈ lw_all := lw_g (lw_at lw_m3 106 rfl) rfl
theorem q719 : (Jvm.Cond.code ({ cls := "VotingHuts$Parser", name := "check", desc := "(ZI)V" } : Jvm.MethodName) prog_6_method_5_code (3 : Nat) (Option.none : Option Jvm.ClassFile.FieldType)) ∈ lw_all := lw_g (lw_at lw_m3 107 rfl) rfl
theorem q720 : (Jvm.Cond.classLink "VotingHuts$Parser" (90 : Nat) "VotingHuts$Flaw") ∈ lw_all := lw_g (lw_at lw_m3 108 rfl) rfl
theorem q729 : (Jvm.Cond.methodLink "VotingHuts$Parser" (92 : Nat) ({ cls := "VotingHuts$Flaw", name := "<init>", desc := "(II)V" } : Jvm.MethodName)) ∈ lw_all := lw_g (lw_at lw_m3 117 rfl) rfl
theorem q748 : (Jvm.Cond.methodLink "VotingHuts$Parser" (111 : Nat) ({ cls := "VotingHuts$Parser", name := "number", desc := "(II)I" } : Jvm.MethodName)) ∈ lw_all := lw_g (lw_at lw_m3 136 rfl) rfl
theorem q749 : (Jvm.Cond.privateMethod ({ cls := "VotingHuts$Parser", name := "number", desc := "(II)I" } : Jvm.MethodName)) ∈ lw_tbl := lw_at lw_m3 137 rfl
theorem q750 : (Jvm.Cond.instanceMethod ({ cls := "VotingHuts$Parser", name := "number", desc := "(II)I" } : Jvm.MethodName)) ∈ lw_all := lw_g (lw_at lw_m3 138 rfl) rfl
theorem q751 : (Jvm.Cond.code ({ cls := "VotingHuts$Parser", name := "number", desc := "(II)I" } : Jvm.MethodName) prog_6_method_7_code (4 : Nat) (Option.some Jvm.ClassFile.FieldType.int)) ∈ lw_all := lw_g (lw_at lw_m3 139 rfl) rfl
theorem q752 : (Jvm.Cond.methodLink "VotingHuts$Parser" (99 : Nat) ({ cls := "VotingHuts$Parser", name := "look", desc := "(II)I" } : Jvm.MethodName)) ∈ lw_all := lw_g (lw_at lw_m3 140 rfl) rfl
theorem q753 : (Jvm.Cond.privateMethod ({ cls := "VotingHuts$Parser", name := "look", desc := "(II)I" } : Jvm.MethodName)) ∈ lw_tbl := lw_at lw_m3 141 rfl
theorem q754 : (Jvm.Cond.instanceMethod ({ cls := "VotingHuts$Parser", name := "look", desc := "(II)I" } : Jvm.MethodName)) ∈ lw_all := lw_g (lw_at lw_m3 142 rfl) rfl
theorem q755 : (Jvm.Cond.code ({ cls := "VotingHuts$Parser", name := "look", desc := "(II)I" } : Jvm.MethodName) prog_6_method_6_code (5 : Nat) (Option.some Jvm.ClassFile.FieldType.int)) ∈ lw_all := lw_g (lw_at lw_m3 143 rfl) rfl
theorem q756 : (Jvm.Cond.classLink "VotingHuts$Parser" (107 : Nat) "VotingHuts$World") ∈ lw_all := lw_g (lw_at lw_m3 144 rfl) rfl
theorem q758 : (Jvm.Cond.methodLink "VotingHuts$Parser" (222 : Nat) ({ cls := "VotingHuts$World", name := "<init>", desc := "(II)V" } : Jvm.MethodName)) ∈ lw_all := lw_g (lw_at lw_m3 146 rfl) rfl
theorem q804 : (Jvm.Cond.fieldLinkNest "VotingHuts$Parser" (132 : Nat) "VotingHuts$Wires" "storm" "[I" "VotingHuts") ∈ lw_tbl := lw_at lw_m3 192 rfl
theorem q807 : (Jvm.Cond.fieldLinkNest "VotingHuts$Parser" (126 : Nat) "VotingHuts$Wires" "phase" "[I" "VotingHuts") ∈ lw_tbl := lw_at lw_m3 195 rfl
theorem q814 : (Jvm.Cond.fieldLinkNest "VotingHuts$Parser" (135 : Nat) "VotingHuts$Wires" "isCut" "[Z" "VotingHuts") ∈ lw_tbl := lw_at lw_m3 202 rfl
theorem q861 : (Jvm.Cond.fieldLinkNest "VotingHuts$Parser" (106 : Nat) "VotingHuts$World" "levels" "I" "VotingHuts") ∈ lw_tbl := lw_at lw_m4 9 rfl
theorem q864 : (Jvm.Cond.fieldLinkNest "VotingHuts$Parser" (122 : Nat) "VotingHuts$World" "wires" "LVotingHuts$Wires;" "VotingHuts") ∈ lw_tbl := lw_at lw_m4 12 rfl
theorem q867 : (Jvm.Cond.fieldLinkNest "VotingHuts$Parser" (139 : Nat) "VotingHuts$World" "messages" "Ljava/util/List;" "VotingHuts") ∈ lw_tbl := lw_at lw_m4 15 rfl
theorem q872 : (Jvm.Cond.fieldLinkNest "VotingHuts$Parser" (212 : Nat) "VotingHuts$World" "asks" "I" "VotingHuts") ∈ lw_tbl := lw_at lw_m4 20 rfl
theorem q893 : (Jvm.Cond.methodLink "VotingHuts$Parser" (223 : Nat) ({ cls := "VotingHuts$Parser", name := "line", desc := "()V" } : Jvm.MethodName)) ∈ lw_all := lw_g (lw_at lw_m4 41 rfl) rfl
theorem q894 : (Jvm.Cond.privateMethod ({ cls := "VotingHuts$Parser", name := "line", desc := "()V" } : Jvm.MethodName)) ∈ lw_tbl := lw_at lw_m4 42 rfl
theorem q895 : (Jvm.Cond.instanceMethod ({ cls := "VotingHuts$Parser", name := "line", desc := "()V" } : Jvm.MethodName)) ∈ lw_all := lw_g (lw_at lw_m4 43 rfl) rfl
theorem q896 : (Jvm.Cond.code ({ cls := "VotingHuts$Parser", name := "line", desc := "()V" } : Jvm.MethodName) prog_6_method_15_code (5 : Nat) (Option.none : Option Jvm.ClassFile.FieldType)) ∈ lw_all := lw_g (lw_at lw_m4 44 rfl) rfl
theorem q897 : (Jvm.Cond.methodLink "VotingHuts$Parser" (169 : Nat) ({ cls := "java/lang/String", name := "hashCode", desc := "()I" } : Jvm.MethodName)) ∈ lw_all := lw_g (lw_at lw_m4 45 rfl) rfl
theorem q958 : (Jvm.Cond.stringRef "VotingHuts$Parser" (174 : Nat) "storm") ∈ lw_tbl := lw_at lw_m4 106 rfl
theorem q959 : (Jvm.Cond.stringRef "VotingHuts$Parser" (179 : Nat) "cut") ∈ lw_tbl := lw_at lw_m4 107 rfl
theorem q960 : (Jvm.Cond.stringRef "VotingHuts$Parser" (181 : Nat) "send") ∈ lw_tbl := lw_at lw_m4 108 rfl
theorem q961 : (Jvm.Cond.stringRef "VotingHuts$Parser" (183 : Nat) "mend") ∈ lw_tbl := lw_at lw_m4 109 rfl
theorem q962 : (Jvm.Cond.stringRef "VotingHuts$Parser" (185 : Nat) "same") ∈ lw_tbl := lw_at lw_m4 110 rfl
theorem q963 : (Jvm.Cond.stringRef "VotingHuts$Parser" (186 : Nat) "drop") ∈ lw_tbl := lw_at lw_m4 111 rfl
theorem q964 : (Jvm.Cond.stringRef "VotingHuts$Parser" (188 : Nat) "asks") ∈ lw_tbl := lw_at lw_m4 112 rfl
theorem q965 : (Jvm.Cond.stringRef "VotingHuts$Parser" (190 : Nat) "calm") ∈ lw_tbl := lw_at lw_m4 113 rfl
theorem q966 : (Jvm.Cond.stringRef "VotingHuts$Parser" (192 : Nat) "pass") ∈ lw_tbl := lw_at lw_m4 114 rfl
theorem q967 : (Jvm.Cond.methodLink "VotingHuts$Parser" (194 : Nat) ({ cls := "VotingHuts$Parser", name := "stormLine", desc := "()V" } : Jvm.MethodName)) ∈ lw_all := lw_g (lw_at lw_m4 115 rfl) rfl
theorem q968 : (Jvm.Cond.privateMethod ({ cls := "VotingHuts$Parser", name := "stormLine", desc := "()V" } : Jvm.MethodName)) ∈ lw_tbl := lw_at lw_m4 116 rfl
theorem q969 : (Jvm.Cond.instanceMethod ({ cls := "VotingHuts$Parser", name := "stormLine", desc := "()V" } : Jvm.MethodName)) ∈ lw_all := lw_g (lw_at lw_m4 117 rfl) rfl
theorem q970 : (Jvm.Cond.code ({ cls := "VotingHuts$Parser", name := "stormLine", desc := "()V" } : Jvm.MethodName) prog_6_method_9_code (5 : Nat) (Option.none : Option Jvm.ClassFile.FieldType)) ∈ lw_all := lw_g (lw_at lw_m4 118 rfl) rfl
theorem q971 : (Jvm.Cond.methodLink "VotingHuts$Parser" (114 : Nat) ({ cls := "VotingHuts$Parser", name := "level", desc := "()I" } : Jvm.MethodName)) ∈ lw_all := lw_g (lw_at lw_m4 119 rfl) rfl
theorem q972 : (Jvm.Cond.privateMethod ({ cls := "VotingHuts$Parser", name := "level", desc := "()I" } : Jvm.MethodName)) ∈ lw_tbl := lw_at lw_m4 120 rfl
theorem q973 : (Jvm.Cond.instanceMethod ({ cls := "VotingHuts$Parser", name := "level", desc := "()I" } : Jvm.MethodName)) ∈ lw_all := lw_g (lw_at lw_m4 121 rfl) rfl
theorem q974 : (Jvm.Cond.code ({ cls := "VotingHuts$Parser", name := "level", desc := "()I" } : Jvm.MethodName) prog_6_method_8_code (1 : Nat) (Option.some Jvm.ClassFile.FieldType.int)) ∈ lw_all := lw_g (lw_at lw_m4 122 rfl) rfl
theorem q975 : (Jvm.Cond.methodLinkNest "VotingHuts$Parser" (118 : Nat) ({ cls := "VotingHuts", name := "wireOf", desc := "(III)I" } : Jvm.MethodName) "VotingHuts") ∈ lw_tbl := lw_at lw_m4 123 rfl
theorem q978 : (Jvm.Cond.methodLink "VotingHuts$Parser" (197 : Nat) ({ cls := "VotingHuts$Parser", name := "cutLine", desc := "()V" } : Jvm.MethodName)) ∈ lw_all := lw_g (lw_at lw_m4 126 rfl) rfl
theorem q979 : (Jvm.Cond.privateMethod ({ cls := "VotingHuts$Parser", name := "cutLine", desc := "()V" } : Jvm.MethodName)) ∈ lw_tbl := lw_at lw_m4 127 rfl
theorem q980 : (Jvm.Cond.instanceMethod ({ cls := "VotingHuts$Parser", name := "cutLine", desc := "()V" } : Jvm.MethodName)) ∈ lw_all := lw_g (lw_at lw_m4 128 rfl) rfl
theorem q981 : (Jvm.Cond.code ({ cls := "VotingHuts$Parser", name := "cutLine", desc := "()V" } : Jvm.MethodName) prog_6_method_10_code (4 : Nat) (Option.none : Option Jvm.ClassFile.FieldType)) ∈ lw_all := lw_g (lw_at lw_m4 129 rfl) rfl
theorem q982 : (Jvm.Cond.methodLink "VotingHuts$Parser" (200 : Nat) ({ cls := "VotingHuts$Parser", name := "sendLine", desc := "()V" } : Jvm.MethodName)) ∈ lw_all := lw_g (lw_at lw_m4 130 rfl) rfl
theorem q983 : (Jvm.Cond.privateMethod ({ cls := "VotingHuts$Parser", name := "sendLine", desc := "()V" } : Jvm.MethodName)) ∈ lw_tbl := lw_at lw_m4 131 rfl
theorem q984 : (Jvm.Cond.instanceMethod ({ cls := "VotingHuts$Parser", name := "sendLine", desc := "()V" } : Jvm.MethodName)) ∈ lw_all := lw_g (lw_at lw_m4 132 rfl) rfl
theorem q985 : (Jvm.Cond.code ({ cls := "VotingHuts$Parser", name := "sendLine", desc := "()V" } : Jvm.MethodName) prog_6_method_14_code (3 : Nat) (Option.none : Option Jvm.ClassFile.FieldType)) ∈ lw_all := lw_g (lw_at lw_m4 133 rfl) rfl
theorem q986 : (Jvm.Cond.interfaceEntry "VotingHuts$Parser" (143 : Nat)) ∈ lw_tbl := lw_at lw_m4 134 rfl
theorem q987 : (Jvm.Cond.methodLink "VotingHuts$Parser" (143 : Nat) ({ cls := "java/util/List", name := "size", desc := "()I" } : Jvm.MethodName)) ∈ lw_all := lw_g (lw_at lw_m4 135 rfl) rfl
theorem q996 : (Jvm.Cond.methodLink "VotingHuts$Parser" (152 : Nat) ({ cls := "VotingHuts$World", name := "sends", desc := "([I)I" } : Jvm.MethodName)) ∈ lw_all := lw_g (lw_at lw_m4 144 rfl) rfl
theorem q1026 : (Jvm.Cond.fieldLinkNest "VotingHuts$Parser" (160 : Nat) "VotingHuts$Message" "arrived" "I" "VotingHuts") ∈ lw_tbl := lw_at lw_m4 174 rfl
theorem q1079 : (Jvm.Cond.selects "VotingHuts$Parser" ({ cls := "java/lang/Object", name := "getClass", desc := "()Ljava/lang/Class;" } : Jvm.MethodName) ({ cls := "java/lang/Object", name := "getClass", desc := "()Ljava/lang/Class;" } : Jvm.MethodName)) ∈ lw_all := lw_g (lw_at lw_m4 227 rfl) rfl
theorem q1174 : (Jvm.Cond.methodLink "VotingHuts$Parser" (203 : Nat) ({ cls := "VotingHuts$Parser", name := "mendLine", desc := "()V" } : Jvm.MethodName)) ∈ lw_all := lw_g (lw_at lw_m5 82 rfl) rfl
theorem q1175 : (Jvm.Cond.privateMethod ({ cls := "VotingHuts$Parser", name := "mendLine", desc := "()V" } : Jvm.MethodName)) ∈ lw_tbl := lw_at lw_m5 83 rfl
theorem q1176 : (Jvm.Cond.instanceMethod ({ cls := "VotingHuts$Parser", name := "mendLine", desc := "()V" } : Jvm.MethodName)) ∈ lw_all := lw_g (lw_at lw_m5 84 rfl) rfl
theorem q1177 : (Jvm.Cond.code ({ cls := "VotingHuts$Parser", name := "mendLine", desc := "()V" } : Jvm.MethodName) prog_6_method_11_code (4 : Nat) (Option.none : Option Jvm.ClassFile.FieldType)) ∈ lw_all := lw_g (lw_at lw_m5 85 rfl) rfl
theorem q1178 : (Jvm.Cond.methodLink "VotingHuts$Parser" (206 : Nat) ({ cls := "VotingHuts$Parser", name := "sameLine", desc := "()V" } : Jvm.MethodName)) ∈ lw_all := lw_g (lw_at lw_m5 86 rfl) rfl
theorem q1179 : (Jvm.Cond.privateMethod ({ cls := "VotingHuts$Parser", name := "sameLine", desc := "()V" } : Jvm.MethodName)) ∈ lw_tbl := lw_at lw_m5 87 rfl
theorem q1180 : (Jvm.Cond.instanceMethod ({ cls := "VotingHuts$Parser", name := "sameLine", desc := "()V" } : Jvm.MethodName)) ∈ lw_all := lw_g (lw_at lw_m5 88 rfl) rfl
theorem q1181 : (Jvm.Cond.code ({ cls := "VotingHuts$Parser", name := "sameLine", desc := "()V" } : Jvm.MethodName) prog_6_method_12_code (3 : Nat) (Option.none : Option Jvm.ClassFile.FieldType)) ∈ lw_all := lw_g (lw_at lw_m5 89 rfl) rfl
theorem q1182 : (Jvm.Cond.methodLinkNest "VotingHuts$Parser" (148 : Nat) ({ cls := "VotingHuts", name := "same", desc := "(II)[I" } : Jvm.MethodName) "VotingHuts") ∈ lw_tbl := lw_at lw_m5 90 rfl
theorem q1185 : (Jvm.Cond.methodLink "VotingHuts$Parser" (209 : Nat) ({ cls := "VotingHuts$Parser", name := "dropLine", desc := "()V" } : Jvm.MethodName)) ∈ lw_all := lw_g (lw_at lw_m5 93 rfl) rfl
theorem q1186 : (Jvm.Cond.privateMethod ({ cls := "VotingHuts$Parser", name := "dropLine", desc := "()V" } : Jvm.MethodName)) ∈ lw_tbl := lw_at lw_m5 94 rfl
theorem q1187 : (Jvm.Cond.instanceMethod ({ cls := "VotingHuts$Parser", name := "dropLine", desc := "()V" } : Jvm.MethodName)) ∈ lw_all := lw_g (lw_at lw_m5 95 rfl) rfl
theorem q1188 : (Jvm.Cond.code ({ cls := "VotingHuts$Parser", name := "dropLine", desc := "()V" } : Jvm.MethodName) prog_6_method_13_code (2 : Nat) (Option.none : Option Jvm.ClassFile.FieldType)) ∈ lw_all := lw_g (lw_at lw_m5 96 rfl) rfl
theorem q1189 : (Jvm.Cond.methodLink "VotingHuts$Parser" (156 : Nat) ({ cls := "VotingHuts$World", name := "message", desc := "(I)LVotingHuts$Message;" } : Jvm.MethodName)) ∈ lw_all := lw_g (lw_at lw_m5 97 rfl) rfl
theorem q1190 : (Jvm.Cond.methodLink "VotingHuts$Parser" (165 : Nat) ({ cls := "VotingHuts$World", name := "drops", desc := "(I)V" } : Jvm.MethodName)) ∈ lw_all := lw_g (lw_at lw_m5 98 rfl) rfl
theorem q1246 : (Jvm.Cond.methodLink "VotingHuts$Parser" (214 : Nat) ({ cls := "VotingHuts$Wires", name := "calms", desc := "()I" } : Jvm.MethodName)) ∈ lw_all := lw_g (lw_at lw_m5 154 rfl) rfl
theorem q1261 : (Jvm.Cond.methodLink "VotingHuts$Parser" (217 : Nat) ({ cls := "VotingHuts$World", name := "hours", desc := "(I)I" } : Jvm.MethodName)) ∈ lw_all := lw_g (lw_at lw_m5 169 rfl) rfl
theorem q2927 : (Jvm.Cond.castable "VotingHuts$Parser" "java/lang/Object") ∈ lw_tbl := lw_at lw_m12 155 rfl
theorem in_X3 : ∀ w ∈ wsX30, w ∈ lw_all := lw_in wsX30 [688, 690, 692, 694, 696, 698, 700] (by decide +kernel) (by decide +kernel)
/-! VotingHuts$Flaw -/
set_option maxRecDepth 100000
def RX4 : String := "VotingHuts$Flaw"
def TX4 : u_T := fun k => match k with
  | 0 => ("java/lang/Throwable", "cause", "Ljava/lang/Throwable;", false)
  | 1 => ("java/lang/Throwable", "stackTrace", "[Ljava/lang/StackTraceElement;", false)
  | 2 => ("java/lang/Throwable", "suppressedExceptions", "Ljava/util/List;", false)
  | 3 => ("java/lang/Throwable", "detailMessage", "Ljava/lang/String;", false)
  | 4 => ("java/lang/Throwable", "backtrace", "Ljava/lang/Object;", false)
  | 5 => ("java/lang/Throwable", "depth", "I", false)
  | 6 => ("VotingHuts$Flaw", "code", "I", true)
  | _ => ("VotingHuts$Flaw", "position", "I", true)
def tyX4 : Nat → FieldType := fun k => match k with
  | 0 => .object "java/lang/Throwable"
  | 1 => .array (.object "java/lang/StackTraceElement")
  | 2 => .object "java/util/List"
  | 3 => .object "java/lang/String"
  | 4 => .object "java/lang/Object"
  | 5 => .int
  | 6 => .int
  | _ => .int
abbrev wsX40 : List Cond := u_ws RX4 TX4 8
theorem nmX4 : ∀ a, a < 8 → ∀ b, b < 8 → a ≠ b → (TX4 a).2.1 ≠ (TX4 b).2.1 := by decide +kernel
theorem tyX4_ok : ∀ k, k < 8 → parseFieldDescriptor (TX4 k).2.2.1 = some (tyX4 k) := by decide +kernel
abbrev cX4_init : ByteArray := prog_3_method_1_code
def yX4_init : MethodName := ⟨RX4, "<init>", "(II)V"⟩
def dkwX4_init_0 : List UInt8 := [42, 1, 1, 3, 3, 183, 0, 1, 42, 27, 181, 0, 7, 42, 28, 181, 0, 13, 177]
abbrev dktX4_init_0 : List UInt8 := dkwX4_init_0 ++ []
theorem dksX4_init_0 : cX4_init.data.toList.drop 0 = dktX4_init_0 := by decide +kernel
theorem dX4_init_0 : decode cX4_init 0 = .ok (.aload_n 0, 1) := dk_42 (dk_at dksX4_init_0 0 rfl rfl)
theorem dX4_init_1 : decode cX4_init 1 = .ok (.aconst_null, 1) := dk_1 (dk_at dksX4_init_0 1 rfl rfl)
theorem dX4_init_2 : decode cX4_init 2 = .ok (.aconst_null, 1) := dk_1 (dk_at dksX4_init_0 2 rfl rfl)
theorem dX4_init_3 : decode cX4_init 3 = .ok (.iconst 0, 1) := dk_3 (dk_at dksX4_init_0 3 rfl rfl)
theorem dX4_init_4 : decode cX4_init 4 = .ok (.iconst 0, 1) := dk_3 (dk_at dksX4_init_0 4 rfl rfl)
theorem dX4_init_5 : decode cX4_init 5 = .ok (.invokespecial 1, 3) := dk_183 0 1 (dk_at dksX4_init_0 5 rfl rfl)
theorem dX4_init_8 : decode cX4_init 8 = .ok (.aload_n 0, 1) := dk_42 (dk_at dksX4_init_0 8 rfl rfl)
theorem dX4_init_9 : decode cX4_init 9 = .ok (.iload_n 1, 1) := dk_27 (dk_at dksX4_init_0 9 rfl rfl)
theorem dX4_init_10 : decode cX4_init 10 = .ok (.putfield 7, 3) := dk_181 0 7 (dk_at dksX4_init_0 10 rfl rfl)
theorem dX4_init_13 : decode cX4_init 13 = .ok (.aload_n 0, 1) := dk_42 (dk_at dksX4_init_0 13 rfl rfl)
theorem dX4_init_14 : decode cX4_init 14 = .ok (.iload_n 2, 1) := dk_28 (dk_at dksX4_init_0 14 rfl rfl)
theorem dX4_init_15 : decode cX4_init 15 = .ok (.putfield 13, 3) := dk_181 0 13 (dk_at dksX4_init_0 15 rfl rfl)
theorem dX4_init_18 : decode cX4_init 18 = .ok (.return_, 1) := dk_177 (dk_at dksX4_init_0 18 rfl rfl)
theorem q158 : (Jvm.Cond.initialized "VotingHuts$Flaw") ∈ lw_all := lw_g (lw_at lw_m1 26 rfl) rfl
theorem q315 : (Jvm.Cond.selects "VotingHuts$Flaw" ({ cls := "java/lang/Throwable", name := "fillInStackTrace", desc := "()Ljava/lang/Throwable;" } : Jvm.MethodName) ({ cls := "java/lang/Throwable", name := "fillInStackTrace", desc := "()Ljava/lang/Throwable;" } : Jvm.MethodName)) ∈ lw_all := lw_g (lw_at lw_m1 183 rfl) rfl
theorem q721 : (Jvm.Cond.instantiable "VotingHuts$Flaw" (8 : Nat)) ∈ lw_all := lw_g (lw_at lw_m3 109 rfl) rfl
theorem q722 : (Jvm.Cond.castable "VotingHuts$Flaw" "VotingHuts$Flaw") ∈ lw_tbl := lw_at lw_m3 110 rfl
theorem q723 : (Jvm.Cond.selects "VotingHuts$Flaw" ({ cls := "java/lang/Throwable", name := "fillInStackTrace", desc := "(I)Ljava/lang/Throwable;" } : Jvm.MethodName) ({ cls := "java/lang/Throwable", name := "fillInStackTrace", desc := "(I)Ljava/lang/Throwable;" } : Jvm.MethodName)) ∈ lw_all := lw_g (lw_at lw_m3 111 rfl) rfl
theorem q724 : (Jvm.Cond.lays "VotingHuts$Flaw" "java/lang/Throwable" "cause" "Ljava/lang/Throwable;") ∈ lw_all := lw_g (lw_at lw_m3 112 rfl) rfl
theorem q725 : (Jvm.Cond.lays "VotingHuts$Flaw" "java/lang/Throwable" "stackTrace" "[Ljava/lang/StackTraceElement;") ∈ lw_all := lw_g (lw_at lw_m3 113 rfl) rfl
theorem q726 : (Jvm.Cond.lays "VotingHuts$Flaw" "java/lang/Throwable" "suppressedExceptions" "Ljava/util/List;") ∈ lw_all := lw_g (lw_at lw_m3 114 rfl) rfl
theorem q727 : (Jvm.Cond.lays "VotingHuts$Flaw" "java/lang/Throwable" "detailMessage" "Ljava/lang/String;") ∈ lw_all := lw_g (lw_at lw_m3 115 rfl) rfl
theorem q728 : (Jvm.Cond.lays "VotingHuts$Flaw" "java/lang/Throwable" "backtrace" "Ljava/lang/Object;") ∈ lw_all := lw_g (lw_at lw_m3 116 rfl) rfl
theorem q730 : (Jvm.Cond.instanceMethod ({ cls := "VotingHuts$Flaw", name := "<init>", desc := "(II)V" } : Jvm.MethodName)) ∈ lw_all := lw_g (lw_at lw_m3 118 rfl) rfl
theorem q731 : (Jvm.Cond.code ({ cls := "VotingHuts$Flaw", name := "<init>", desc := "(II)V" } : Jvm.MethodName) prog_3_method_1_code (3 : Nat) (Option.none : Option Jvm.ClassFile.FieldType)) ∈ lw_all := lw_g (lw_at lw_m3 119 rfl) rfl
theorem q732 : (Jvm.Cond.methodLink "VotingHuts$Flaw" (1 : Nat) ({ cls := "java/lang/Exception", name := "<init>", desc := "(Ljava/lang/String;Ljava/lang/Throwable;ZZ)V" } : Jvm.MethodName)) ∈ lw_all := lw_g (lw_at lw_m3 120 rfl) rfl
theorem q738 : (Jvm.Cond.fieldLink "VotingHuts$Flaw" (7 : Nat) "VotingHuts$Flaw" "code" "I") ∈ lw_all := lw_g (lw_at lw_m3 126 rfl) rfl
theorem q740 : (Jvm.Cond.fieldLink "VotingHuts$Flaw" (13 : Nat) "VotingHuts$Flaw" "position" "I") ∈ lw_all := lw_g (lw_at lw_m3 128 rfl) rfl
theorem q742 : (Jvm.Cond.laysFinal "VotingHuts$Flaw" "VotingHuts$Flaw" "code" "I") ∈ lw_all := lw_g (lw_at lw_m3 130 rfl) rfl
theorem q743 : (Jvm.Cond.soleField "VotingHuts$Flaw" "code") ∈ lw_all := lw_g (lw_at lw_m3 131 rfl) rfl
theorem q744 : (Jvm.Cond.laysFinal "VotingHuts$Flaw" "VotingHuts$Flaw" "position" "I") ∈ lw_all := lw_g (lw_at lw_m3 132 rfl) rfl
theorem q745 : (Jvm.Cond.soleField "VotingHuts$Flaw" "position") ∈ lw_all := lw_g (lw_at lw_m3 133 rfl) rfl
theorem q746 : (Jvm.Cond.lays "VotingHuts$Flaw" "java/lang/Throwable" "depth" "I") ∈ lw_all := lw_g (lw_at lw_m3 134 rfl) rfl
theorem q747 : (Jvm.Cond.superclass "VotingHuts$Flaw" "java/lang/Exception") ∈ lw_all := lw_g (lw_at lw_m3 135 rfl) rfl
theorem q1076 : (Jvm.Cond.selects "VotingHuts$Flaw" ({ cls := "java/lang/Object", name := "getClass", desc := "()Ljava/lang/Class;" } : Jvm.MethodName) ({ cls := "java/lang/Object", name := "getClass", desc := "()Ljava/lang/Class;" } : Jvm.MethodName)) ∈ lw_all := lw_g (lw_at lw_m4 224 rfl) rfl
theorem q2931 : (Jvm.Cond.castable "VotingHuts$Flaw" "java/lang/Object") ∈ lw_tbl := lw_at lw_m12 159 rfl
theorem in_X4 : ∀ w ∈ wsX40, w ∈ lw_all := lw_in wsX40 [724, 725, 726, 727, 728, 746, 742, 744] (by decide +kernel) (by decide +kernel)
/-! VotingHuts$World -/
set_option maxRecDepth 100000
def RX5 : String := "VotingHuts$World"
def TX5 : u_T := fun k => match k with
  | 0 => ("VotingHuts$World", "levels", "I", true)
  | 1 => ("VotingHuts$World", "wires", "LVotingHuts$Wires;", true)
  | 2 => ("VotingHuts$World", "messages", "Ljava/util/List;", true)
  | 3 => ("VotingHuts$World", "log", "LVotingHuts$Kept;", true)
  | 4 => ("VotingHuts$World", "asks", "I", false)
  | 5 => ("VotingHuts$World", "hour", "I", false)
  | _ => ("VotingHuts$World", "asked", "I", false)
def tyX5 : Nat → FieldType := fun k => match k with
  | 0 => .int
  | 1 => .object "VotingHuts$Wires"
  | 2 => .object "java/util/List"
  | 3 => .object "VotingHuts$Kept"
  | 4 => .int
  | 5 => .int
  | _ => .int
abbrev wsX50 : List Cond := u_ws RX5 TX5 7
theorem nmX5 : ∀ a, a < 7 → ∀ b, b < 7 → a ≠ b → (TX5 a).2.1 ≠ (TX5 b).2.1 := by decide +kernel
theorem tyX5_ok : ∀ k, k < 7 → parseFieldDescriptor (TX5 k).2.2.1 = some (tyX5 k) := by decide +kernel
abbrev cX5_init : ByteArray := prog_10_method_1_code
def yX5_init : MethodName := ⟨RX5, "<init>", "(II)V"⟩
def dkwX5_init_2 : List UInt8 := [183, 0, 36, 181, 0, 37, 177]
abbrev dktX5_init_2 : List UInt8 := dkwX5_init_2 ++ []
def dkwX5_init_1 : List UInt8 := [181, 0, 24, 42, 187, 0, 27, 89, 27, 183, 0, 29, 181, 0, 30, 42, 187, 0, 34, 89, 16, 40]
abbrev dktX5_init_1 : List UInt8 := dkwX5_init_1 ++ dktX5_init_2
def dkwX5_init_0 : List UInt8 := [42, 183, 0, 3, 42, 187, 0, 9, 89, 16, 6, 183, 0, 11, 181, 0, 14, 42, 27, 181, 0, 20, 42, 28]
abbrev dktX5_init_0 : List UInt8 := dkwX5_init_0 ++ dktX5_init_1
theorem dksX5_init_0 : cX5_init.data.toList.drop 0 = dktX5_init_0 := by decide +kernel
theorem dksX5_init_1 : cX5_init.data.toList.drop 24 = dktX5_init_1 := dk_seg dksX5_init_0 24 rfl rfl
theorem dksX5_init_2 : cX5_init.data.toList.drop 46 = dktX5_init_2 := dk_seg dksX5_init_1 22 rfl rfl
theorem dX5_init_0 : decode cX5_init 0 = .ok (.aload_n 0, 1) := dk_42 (dk_at dksX5_init_0 0 rfl rfl)
theorem dX5_init_1 : decode cX5_init 1 = .ok (.invokespecial 3, 3) := dk_183 0 3 (dk_at dksX5_init_0 1 rfl rfl)
theorem dX5_init_4 : decode cX5_init 4 = .ok (.aload_n 0, 1) := dk_42 (dk_at dksX5_init_0 4 rfl rfl)
theorem dX5_init_5 : decode cX5_init 5 = .ok (.new 9, 3) := dk_187 0 9 (dk_at dksX5_init_0 5 rfl rfl)
theorem dX5_init_8 : decode cX5_init 8 = .ok (.dup, 1) := dk_89 (dk_at dksX5_init_0 8 rfl rfl)
theorem dX5_init_9 : decode cX5_init 9 = .ok (.bipush 6, 2) := dk_16 6 (dk_at dksX5_init_0 9 rfl rfl)
theorem dX5_init_11 : decode cX5_init 11 = .ok (.invokespecial 11, 3) := dk_183 0 11 (dk_at dksX5_init_0 11 rfl rfl)
theorem dX5_init_14 : decode cX5_init 14 = .ok (.putfield 14, 3) := dk_181 0 14 (dk_at dksX5_init_0 14 rfl rfl)
theorem dX5_init_17 : decode cX5_init 17 = .ok (.aload_n 0, 1) := dk_42 (dk_at dksX5_init_0 17 rfl rfl)
theorem dX5_init_18 : decode cX5_init 18 = .ok (.iload_n 1, 1) := dk_27 (dk_at dksX5_init_0 18 rfl rfl)
theorem dX5_init_19 : decode cX5_init 19 = .ok (.putfield 20, 3) := dk_181 0 20 (dk_at dksX5_init_0 19 rfl rfl)
theorem dX5_init_22 : decode cX5_init 22 = .ok (.aload_n 0, 1) := dk_42 (dk_at dksX5_init_0 22 rfl rfl)
theorem dX5_init_23 : decode cX5_init 23 = .ok (.iload_n 2, 1) := dk_28 (dk_at dksX5_init_0 23 rfl rfl)
theorem dX5_init_24 : decode cX5_init 24 = .ok (.putfield 24, 3) := dk_181 0 24 (dk_at dksX5_init_1 0 rfl rfl)
theorem dX5_init_27 : decode cX5_init 27 = .ok (.aload_n 0, 1) := dk_42 (dk_at dksX5_init_1 3 rfl rfl)
theorem dX5_init_28 : decode cX5_init 28 = .ok (.new 27, 3) := dk_187 0 27 (dk_at dksX5_init_1 4 rfl rfl)
theorem dX5_init_31 : decode cX5_init 31 = .ok (.dup, 1) := dk_89 (dk_at dksX5_init_1 7 rfl rfl)
theorem dX5_init_32 : decode cX5_init 32 = .ok (.iload_n 1, 1) := dk_27 (dk_at dksX5_init_1 8 rfl rfl)
theorem dX5_init_33 : decode cX5_init 33 = .ok (.invokespecial 29, 3) := dk_183 0 29 (dk_at dksX5_init_1 9 rfl rfl)
theorem dX5_init_36 : decode cX5_init 36 = .ok (.putfield 30, 3) := dk_181 0 30 (dk_at dksX5_init_1 12 rfl rfl)
theorem dX5_init_39 : decode cX5_init 39 = .ok (.aload_n 0, 1) := dk_42 (dk_at dksX5_init_1 15 rfl rfl)
theorem dX5_init_40 : decode cX5_init 40 = .ok (.new 34, 3) := dk_187 0 34 (dk_at dksX5_init_1 16 rfl rfl)
theorem dX5_init_43 : decode cX5_init 43 = .ok (.dup, 1) := dk_89 (dk_at dksX5_init_1 19 rfl rfl)
theorem dX5_init_44 : decode cX5_init 44 = .ok (.bipush 40, 2) := dk_16 40 (dk_at dksX5_init_1 20 rfl rfl)
theorem dX5_init_46 : decode cX5_init 46 = .ok (.invokespecial 36, 3) := dk_183 0 36 (dk_at dksX5_init_2 0 rfl rfl)
theorem dX5_init_49 : decode cX5_init 49 = .ok (.putfield 37, 3) := dk_181 0 37 (dk_at dksX5_init_2 3 rfl rfl)
theorem dX5_init_52 : decode cX5_init 52 = .ok (.return_, 1) := dk_177 (dk_at dksX5_init_2 6 rfl rfl)
abbrev cX5_sends : ByteArray := prog_10_method_5_code
def yX5_sends : MethodName := ⟨RX5, "sends", "([I)I"⟩
def dkwX5_sends_2 : List UInt8 := [100, 172]
abbrev dktX5_sends_2 : List UInt8 := dkwX5_sends_2 ++ []
def dkwX5_sends_1 : List UInt8 := [42, 180, 0, 14, 185, 0, 53, 1, 0, 4, 100, 182, 0, 91, 42, 180, 0, 14, 185, 0, 53, 1, 0, 4]
abbrev dktX5_sends_1 : List UInt8 := dkwX5_sends_1 ++ dktX5_sends_2
def dkwX5_sends_0 : List UInt8 := [42, 180, 0, 14, 187, 0, 59, 89, 42, 180, 0, 47, 43, 183, 0, 88, 185, 0, 68, 2, 0, 61, 42, 3]
abbrev dktX5_sends_0 : List UInt8 := dkwX5_sends_0 ++ dktX5_sends_1
theorem dksX5_sends_0 : cX5_sends.data.toList.drop 0 = dktX5_sends_0 := by decide +kernel
theorem dksX5_sends_1 : cX5_sends.data.toList.drop 24 = dktX5_sends_1 := dk_seg dksX5_sends_0 24 rfl rfl
theorem dksX5_sends_2 : cX5_sends.data.toList.drop 48 = dktX5_sends_2 := dk_seg dksX5_sends_1 24 rfl rfl
theorem dX5_sends_0 : decode cX5_sends 0 = .ok (.aload_n 0, 1) := dk_42 (dk_at dksX5_sends_0 0 rfl rfl)
theorem dX5_sends_1 : decode cX5_sends 1 = .ok (.getfield 14, 3) := dk_180 0 14 (dk_at dksX5_sends_0 1 rfl rfl)
theorem dX5_sends_4 : decode cX5_sends 4 = .ok (.new 59, 3) := dk_187 0 59 (dk_at dksX5_sends_0 4 rfl rfl)
theorem dX5_sends_7 : decode cX5_sends 7 = .ok (.dup, 1) := dk_89 (dk_at dksX5_sends_0 7 rfl rfl)
theorem dX5_sends_8 : decode cX5_sends 8 = .ok (.aload_n 0, 1) := dk_42 (dk_at dksX5_sends_0 8 rfl rfl)
theorem dX5_sends_9 : decode cX5_sends 9 = .ok (.getfield 47, 3) := dk_180 0 47 (dk_at dksX5_sends_0 9 rfl rfl)
theorem dX5_sends_12 : decode cX5_sends 12 = .ok (.aload_n 1, 1) := dk_43 (dk_at dksX5_sends_0 12 rfl rfl)
theorem dX5_sends_13 : decode cX5_sends 13 = .ok (.invokespecial 88, 3) := dk_183 0 88 (dk_at dksX5_sends_0 13 rfl rfl)
theorem dX5_sends_16 : decode cX5_sends 16 = .ok (.invokeinterface 68 2, 5) := by decide +kernel
theorem dX5_sends_21 : decode cX5_sends 21 = .ok (.istore_n 2, 1) := dk_61 (dk_at dksX5_sends_0 21 rfl rfl)
theorem dX5_sends_22 : decode cX5_sends 22 = .ok (.aload_n 0, 1) := dk_42 (dk_at dksX5_sends_0 22 rfl rfl)
theorem dX5_sends_23 : decode cX5_sends 23 = .ok (.iconst 0, 1) := dk_3 (dk_at dksX5_sends_0 23 rfl rfl)
theorem dX5_sends_24 : decode cX5_sends 24 = .ok (.aload_n 0, 1) := dk_42 (dk_at dksX5_sends_1 0 rfl rfl)
theorem dX5_sends_25 : decode cX5_sends 25 = .ok (.getfield 14, 3) := dk_180 0 14 (dk_at dksX5_sends_1 1 rfl rfl)
theorem dX5_sends_28 : decode cX5_sends 28 = .ok (.invokeinterface 53 1, 5) := by decide +kernel
theorem dX5_sends_33 : decode cX5_sends 33 = .ok (.iconst 1, 1) := dk_4 (dk_at dksX5_sends_1 9 rfl rfl)
theorem dX5_sends_34 : decode cX5_sends 34 = .ok (.isub, 1) := dk_100 (dk_at dksX5_sends_1 10 rfl rfl)
theorem dX5_sends_35 : decode cX5_sends 35 = .ok (.invokevirtual 91, 3) := dk_182 0 91 (dk_at dksX5_sends_1 11 rfl rfl)
theorem dX5_sends_38 : decode cX5_sends 38 = .ok (.aload_n 0, 1) := dk_42 (dk_at dksX5_sends_1 14 rfl rfl)
theorem dX5_sends_39 : decode cX5_sends 39 = .ok (.getfield 14, 3) := dk_180 0 14 (dk_at dksX5_sends_1 15 rfl rfl)
theorem dX5_sends_42 : decode cX5_sends 42 = .ok (.invokeinterface 53 1, 5) := by decide +kernel
theorem dX5_sends_47 : decode cX5_sends 47 = .ok (.iconst 1, 1) := dk_4 (dk_at dksX5_sends_1 23 rfl rfl)
theorem dX5_sends_48 : decode cX5_sends 48 = .ok (.isub, 1) := dk_100 (dk_at dksX5_sends_2 0 rfl rfl)
theorem dX5_sends_49 : decode cX5_sends 49 = .ok (.ireturn, 1) := dk_172 (dk_at dksX5_sends_2 1 rfl rfl)
abbrev cX5_logs : ByteArray := prog_10_method_4_code
def yX5_logs : MethodName := ⟨RX5, "logs", "(II)V"⟩
def dkwX5_logs_1 : List UInt8 := [183, 0, 81, 182, 0, 84, 177]
abbrev dktX5_logs_1 : List UInt8 := dkwX5_logs_1 ++ []
def dkwX5_logs_0 : List UInt8 := [42, 180, 0, 37, 187, 0, 76, 89, 42, 180, 0, 47, 27, 28, 42, 28, 182, 0, 61, 180, 0, 78]
abbrev dktX5_logs_0 : List UInt8 := dkwX5_logs_0 ++ dktX5_logs_1
theorem dksX5_logs_0 : cX5_logs.data.toList.drop 0 = dktX5_logs_0 := by decide +kernel
theorem dksX5_logs_1 : cX5_logs.data.toList.drop 22 = dktX5_logs_1 := dk_seg dksX5_logs_0 22 rfl rfl
theorem dX5_logs_0 : decode cX5_logs 0 = .ok (.aload_n 0, 1) := dk_42 (dk_at dksX5_logs_0 0 rfl rfl)
theorem dX5_logs_1 : decode cX5_logs 1 = .ok (.getfield 37, 3) := dk_180 0 37 (dk_at dksX5_logs_0 1 rfl rfl)
theorem dX5_logs_4 : decode cX5_logs 4 = .ok (.new 76, 3) := dk_187 0 76 (dk_at dksX5_logs_0 4 rfl rfl)
theorem dX5_logs_7 : decode cX5_logs 7 = .ok (.dup, 1) := dk_89 (dk_at dksX5_logs_0 7 rfl rfl)
theorem dX5_logs_8 : decode cX5_logs 8 = .ok (.aload_n 0, 1) := dk_42 (dk_at dksX5_logs_0 8 rfl rfl)
theorem dX5_logs_9 : decode cX5_logs 9 = .ok (.getfield 47, 3) := dk_180 0 47 (dk_at dksX5_logs_0 9 rfl rfl)
theorem dX5_logs_12 : decode cX5_logs 12 = .ok (.iload_n 1, 1) := dk_27 (dk_at dksX5_logs_0 12 rfl rfl)
theorem dX5_logs_13 : decode cX5_logs 13 = .ok (.iload_n 2, 1) := dk_28 (dk_at dksX5_logs_0 13 rfl rfl)
theorem dX5_logs_14 : decode cX5_logs 14 = .ok (.aload_n 0, 1) := dk_42 (dk_at dksX5_logs_0 14 rfl rfl)
theorem dX5_logs_15 : decode cX5_logs 15 = .ok (.iload_n 2, 1) := dk_28 (dk_at dksX5_logs_0 15 rfl rfl)
theorem dX5_logs_16 : decode cX5_logs 16 = .ok (.invokevirtual 61, 3) := dk_182 0 61 (dk_at dksX5_logs_0 16 rfl rfl)
theorem dX5_logs_19 : decode cX5_logs 19 = .ok (.getfield 78, 3) := dk_180 0 78 (dk_at dksX5_logs_0 19 rfl rfl)
theorem dX5_logs_22 : decode cX5_logs 22 = .ok (.invokespecial 81, 3) := dk_183 0 81 (dk_at dksX5_logs_1 0 rfl rfl)
theorem dX5_logs_25 : decode cX5_logs 25 = .ok (.invokevirtual 84, 3) := dk_182 0 84 (dk_at dksX5_logs_1 3 rfl rfl)
theorem dX5_logs_28 : decode cX5_logs 28 = .ok (.return_, 1) := dk_177 (dk_at dksX5_logs_1 6 rfl rfl)
abbrev cX5_message : ByteArray := prog_10_method_3_code
def yX5_message : MethodName := ⟨RX5, "message", "(I)LVotingHuts$Message;"⟩
def dkwX5_message_0 : List UInt8 := [42, 180, 0, 14, 27, 185, 0, 72, 2, 0, 192, 0, 59, 176]
abbrev dktX5_message_0 : List UInt8 := dkwX5_message_0 ++ []
theorem dksX5_message_0 : cX5_message.data.toList.drop 0 = dktX5_message_0 := by decide +kernel
theorem dX5_message_0 : decode cX5_message 0 = .ok (.aload_n 0, 1) := dk_42 (dk_at dksX5_message_0 0 rfl rfl)
theorem dX5_message_1 : decode cX5_message 1 = .ok (.getfield 14, 3) := dk_180 0 14 (dk_at dksX5_message_0 1 rfl rfl)
theorem dX5_message_4 : decode cX5_message 4 = .ok (.iload_n 1, 1) := dk_27 (dk_at dksX5_message_0 4 rfl rfl)
theorem dX5_message_5 : decode cX5_message 5 = .ok (.invokeinterface 72 2, 5) := by decide +kernel
theorem dX5_message_10 : decode cX5_message 10 = .ok (.checkcast 59, 3) := dk_192 0 59 (dk_at dksX5_message_0 10 rfl rfl)
theorem dX5_message_13 : decode cX5_message 13 = .ok (.areturn, 1) := dk_176 (dk_at dksX5_message_0 13 rfl rfl)
abbrev cX5_drops : ByteArray := prog_10_method_9_code
def yX5_drops : MethodName := ⟨RX5, "drops", "(I)V"⟩
def dkwX5_drops_0 : List UInt8 := [42, 180, 0, 14, 27, 185, 0, 112, 2, 0, 192, 0, 59, 77, 42, 180, 0, 37, 27, 182, 0, 115, 177]
abbrev dktX5_drops_0 : List UInt8 := dkwX5_drops_0 ++ []
theorem dksX5_drops_0 : cX5_drops.data.toList.drop 0 = dktX5_drops_0 := by decide +kernel
theorem dX5_drops_0 : decode cX5_drops 0 = .ok (.aload_n 0, 1) := dk_42 (dk_at dksX5_drops_0 0 rfl rfl)
theorem dX5_drops_1 : decode cX5_drops 1 = .ok (.getfield 14, 3) := dk_180 0 14 (dk_at dksX5_drops_0 1 rfl rfl)
theorem dX5_drops_4 : decode cX5_drops 4 = .ok (.iload_n 1, 1) := dk_27 (dk_at dksX5_drops_0 4 rfl rfl)
theorem dX5_drops_5 : decode cX5_drops 5 = .ok (.invokeinterface 112 2, 5) := by decide +kernel
theorem dX5_drops_10 : decode cX5_drops 10 = .ok (.checkcast 59, 3) := dk_192 0 59 (dk_at dksX5_drops_0 10 rfl rfl)
theorem dX5_drops_13 : decode cX5_drops 13 = .ok (.astore_n 2, 1) := dk_77 (dk_at dksX5_drops_0 13 rfl rfl)
theorem dX5_drops_14 : decode cX5_drops 14 = .ok (.aload_n 0, 1) := dk_42 (dk_at dksX5_drops_0 14 rfl rfl)
theorem dX5_drops_15 : decode cX5_drops 15 = .ok (.getfield 37, 3) := dk_180 0 37 (dk_at dksX5_drops_0 15 rfl rfl)
theorem dX5_drops_18 : decode cX5_drops 18 = .ok (.iload_n 1, 1) := dk_27 (dk_at dksX5_drops_0 18 rfl rfl)
theorem dX5_drops_19 : decode cX5_drops 19 = .ok (.invokevirtual 115, 3) := dk_182 0 115 (dk_at dksX5_drops_0 19 rfl rfl)
theorem dX5_drops_22 : decode cX5_drops 22 = .ok (.return_, 1) := dk_177 (dk_at dksX5_drops_0 22 rfl rfl)
abbrev cX5_hours : ByteArray := prog_10_method_7_code
def yX5_hours : MethodName := ⟨RX5, "hours", "(I)I"⟩
def dkwX5_hours_2 : List UInt8 := [96, 181, 0, 47, 132, 3, 1, 167, 255, 206, 28, 172]
abbrev dktX5_hours_2 : List UInt8 := dkwX5_hours_2 ++ []
def dkwX5_hours_1 : List UInt8 := [162, 0, 18, 28, 42, 21, 4, 182, 0, 109, 96, 61, 132, 4, 1, 167, 255, 230, 42, 89, 180, 0, 47, 4]
abbrev dktX5_hours_1 : List UInt8 := dkwX5_hours_1 ++ dktX5_hours_2
def dkwX5_hours_0 : List UInt8 := [3, 61, 3, 62, 29, 27, 162, 0, 51, 3, 54, 4, 21, 4, 42, 180, 0, 14, 185, 0, 53, 1, 0]
abbrev dktX5_hours_0 : List UInt8 := dkwX5_hours_0 ++ dktX5_hours_1
theorem dksX5_hours_0 : cX5_hours.data.toList.drop 0 = dktX5_hours_0 := by decide +kernel
theorem dksX5_hours_1 : cX5_hours.data.toList.drop 23 = dktX5_hours_1 := dk_seg dksX5_hours_0 23 rfl rfl
theorem dksX5_hours_2 : cX5_hours.data.toList.drop 47 = dktX5_hours_2 := dk_seg dksX5_hours_1 24 rfl rfl
theorem dX5_hours_0 : decode cX5_hours 0 = .ok (.iconst 0, 1) := dk_3 (dk_at dksX5_hours_0 0 rfl rfl)
theorem dX5_hours_1 : decode cX5_hours 1 = .ok (.istore_n 2, 1) := dk_61 (dk_at dksX5_hours_0 1 rfl rfl)
theorem dX5_hours_2 : decode cX5_hours 2 = .ok (.iconst 0, 1) := dk_3 (dk_at dksX5_hours_0 2 rfl rfl)
theorem dX5_hours_3 : decode cX5_hours 3 = .ok (.istore_n 3, 1) := dk_62 (dk_at dksX5_hours_0 3 rfl rfl)
theorem dX5_hours_4 : decode cX5_hours 4 = .ok (.iload_n 3, 1) := dk_29 (dk_at dksX5_hours_0 4 rfl rfl)
theorem dX5_hours_5 : decode cX5_hours 5 = .ok (.iload_n 1, 1) := dk_27 (dk_at dksX5_hours_0 5 rfl rfl)
theorem dX5_hours_6 : decode cX5_hours 6 = .ok (.if_icmp .ge 51, 3) := dk_162 0 51 (dk_at dksX5_hours_0 6 rfl rfl)
theorem dX5_hours_9 : decode cX5_hours 9 = .ok (.iconst 0, 1) := dk_3 (dk_at dksX5_hours_0 9 rfl rfl)
theorem dX5_hours_10 : decode cX5_hours 10 = .ok (.istore 4, 2) := dk_54 4 (dk_at dksX5_hours_0 10 rfl rfl)
theorem dX5_hours_12 : decode cX5_hours 12 = .ok (.iload 4, 2) := dk_21 4 (dk_at dksX5_hours_0 12 rfl rfl)
theorem dX5_hours_14 : decode cX5_hours 14 = .ok (.aload_n 0, 1) := dk_42 (dk_at dksX5_hours_0 14 rfl rfl)
theorem dX5_hours_15 : decode cX5_hours 15 = .ok (.getfield 14, 3) := dk_180 0 14 (dk_at dksX5_hours_0 15 rfl rfl)
theorem dX5_hours_18 : decode cX5_hours 18 = .ok (.invokeinterface 53 1, 5) := by decide +kernel
theorem dX5_hours_23 : decode cX5_hours 23 = .ok (.if_icmp .ge 18, 3) := dk_162 0 18 (dk_at dksX5_hours_1 0 rfl rfl)
theorem dX5_hours_26 : decode cX5_hours 26 = .ok (.iload_n 2, 1) := dk_28 (dk_at dksX5_hours_1 3 rfl rfl)
theorem dX5_hours_27 : decode cX5_hours 27 = .ok (.aload_n 0, 1) := dk_42 (dk_at dksX5_hours_1 4 rfl rfl)
theorem dX5_hours_28 : decode cX5_hours 28 = .ok (.iload 4, 2) := dk_21 4 (dk_at dksX5_hours_1 5 rfl rfl)
theorem dX5_hours_30 : decode cX5_hours 30 = .ok (.invokevirtual 109, 3) := dk_182 0 109 (dk_at dksX5_hours_1 7 rfl rfl)
theorem dX5_hours_33 : decode cX5_hours 33 = .ok (.iadd, 1) := dk_96 (dk_at dksX5_hours_1 10 rfl rfl)
theorem dX5_hours_34 : decode cX5_hours 34 = .ok (.istore_n 2, 1) := dk_61 (dk_at dksX5_hours_1 11 rfl rfl)
theorem dX5_hours_35 : decode cX5_hours 35 = .ok (.iinc 4 1, 3) := dk_132 4 1 (dk_at dksX5_hours_1 12 rfl rfl)
theorem dX5_hours_38 : decode cX5_hours 38 = .ok (.goto (-26), 3) := dk_167 255 230 (dk_at dksX5_hours_1 15 rfl rfl)
theorem dX5_hours_41 : decode cX5_hours 41 = .ok (.aload_n 0, 1) := dk_42 (dk_at dksX5_hours_1 18 rfl rfl)
theorem dX5_hours_42 : decode cX5_hours 42 = .ok (.dup, 1) := dk_89 (dk_at dksX5_hours_1 19 rfl rfl)
theorem dX5_hours_43 : decode cX5_hours 43 = .ok (.getfield 47, 3) := dk_180 0 47 (dk_at dksX5_hours_1 20 rfl rfl)
theorem dX5_hours_46 : decode cX5_hours 46 = .ok (.iconst 1, 1) := dk_4 (dk_at dksX5_hours_1 23 rfl rfl)
theorem dX5_hours_47 : decode cX5_hours 47 = .ok (.iadd, 1) := dk_96 (dk_at dksX5_hours_2 0 rfl rfl)
theorem dX5_hours_48 : decode cX5_hours 48 = .ok (.putfield 47, 3) := dk_181 0 47 (dk_at dksX5_hours_2 1 rfl rfl)
theorem dX5_hours_51 : decode cX5_hours 51 = .ok (.iinc 3 1, 3) := dk_132 3 1 (dk_at dksX5_hours_2 4 rfl rfl)
theorem dX5_hours_54 : decode cX5_hours 54 = .ok (.goto (-50), 3) := dk_167 255 206 (dk_at dksX5_hours_2 7 rfl rfl)
theorem dX5_hours_57 : decode cX5_hours 57 = .ok (.iload_n 2, 1) := dk_28 (dk_at dksX5_hours_2 10 rfl rfl)
theorem dX5_hours_58 : decode cX5_hours 58 = .ok (.ireturn, 1) := dk_172 (dk_at dksX5_hours_2 11 rfl rfl)
abbrev cX5_passes : ByteArray := prog_10_method_6_code
def yX5_passes : MethodName := ⟨RX5, "passes", "(I)I"⟩
def dkwX5_passes_4 : List UInt8 := [6, 27, 182, 0, 91, 21, 5, 184, 0, 105, 172]
abbrev dktX5_passes_4 : List UInt8 := dkwX5_passes_4 ++ []
def dkwX5_passes_3 : List UInt8 := [158, 0, 15, 44, 180, 0, 102, 2, 159, 0, 7, 4, 167, 0, 4, 3, 54, 5, 21, 5, 153, 0, 9, 42]
abbrev dktX5_passes_3 : List UInt8 := dkwX5_passes_3 ++ dktX5_passes_4
def dkwX5_passes_2 : List UInt8 := [181, 0, 50, 42, 5, 27, 182, 0, 91, 21, 4, 5, 160, 0, 9, 42, 4, 27, 182, 0, 91, 21, 4]
abbrev dktX5_passes_2 : List UInt8 := dkwX5_passes_2 ++ dktX5_passes_3
def dkwX5_passes_1 : List UInt8 := [42, 180, 0, 24, 182, 0, 98, 54, 4, 21, 4, 4, 160, 0, 19, 42, 89, 180, 0, 50, 29, 96]
abbrev dktX5_passes_1 : List UInt8 := dkwX5_passes_1 ++ dktX5_passes_2
def dkwX5_passes_0 : List UInt8 := [42, 27, 182, 0, 61, 77, 44, 182, 0, 95, 62, 44, 42, 180, 0, 30, 42, 180, 0, 47, 42, 180, 0, 20]
abbrev dktX5_passes_0 : List UInt8 := dkwX5_passes_0 ++ dktX5_passes_1
theorem dksX5_passes_0 : cX5_passes.data.toList.drop 0 = dktX5_passes_0 := by decide +kernel
theorem dksX5_passes_1 : cX5_passes.data.toList.drop 24 = dktX5_passes_1 := dk_seg dksX5_passes_0 24 rfl rfl
theorem dksX5_passes_2 : cX5_passes.data.toList.drop 46 = dktX5_passes_2 := dk_seg dksX5_passes_1 22 rfl rfl
theorem dksX5_passes_3 : cX5_passes.data.toList.drop 69 = dktX5_passes_3 := dk_seg dksX5_passes_2 23 rfl rfl
theorem dksX5_passes_4 : cX5_passes.data.toList.drop 93 = dktX5_passes_4 := dk_seg dksX5_passes_3 24 rfl rfl
theorem dX5_passes_0 : decode cX5_passes 0 = .ok (.aload_n 0, 1) := dk_42 (dk_at dksX5_passes_0 0 rfl rfl)
theorem dX5_passes_1 : decode cX5_passes 1 = .ok (.iload_n 1, 1) := dk_27 (dk_at dksX5_passes_0 1 rfl rfl)
theorem dX5_passes_2 : decode cX5_passes 2 = .ok (.invokevirtual 61, 3) := dk_182 0 61 (dk_at dksX5_passes_0 2 rfl rfl)
theorem dX5_passes_5 : decode cX5_passes 5 = .ok (.astore_n 2, 1) := dk_77 (dk_at dksX5_passes_0 5 rfl rfl)
theorem dX5_passes_6 : decode cX5_passes 6 = .ok (.aload_n 2, 1) := dk_44 (dk_at dksX5_passes_0 6 rfl rfl)
theorem dX5_passes_7 : decode cX5_passes 7 = .ok (.invokevirtual 95, 3) := dk_182 0 95 (dk_at dksX5_passes_0 7 rfl rfl)
theorem dX5_passes_10 : decode cX5_passes 10 = .ok (.istore_n 3, 1) := dk_62 (dk_at dksX5_passes_0 10 rfl rfl)
theorem dX5_passes_11 : decode cX5_passes 11 = .ok (.aload_n 2, 1) := dk_44 (dk_at dksX5_passes_0 11 rfl rfl)
theorem dX5_passes_12 : decode cX5_passes 12 = .ok (.aload_n 0, 1) := dk_42 (dk_at dksX5_passes_0 12 rfl rfl)
theorem dX5_passes_13 : decode cX5_passes 13 = .ok (.getfield 30, 3) := dk_180 0 30 (dk_at dksX5_passes_0 13 rfl rfl)
theorem dX5_passes_16 : decode cX5_passes 16 = .ok (.aload_n 0, 1) := dk_42 (dk_at dksX5_passes_0 16 rfl rfl)
theorem dX5_passes_17 : decode cX5_passes 17 = .ok (.getfield 47, 3) := dk_180 0 47 (dk_at dksX5_passes_0 17 rfl rfl)
theorem dX5_passes_20 : decode cX5_passes 20 = .ok (.aload_n 0, 1) := dk_42 (dk_at dksX5_passes_0 20 rfl rfl)
theorem dX5_passes_21 : decode cX5_passes 21 = .ok (.getfield 20, 3) := dk_180 0 20 (dk_at dksX5_passes_0 21 rfl rfl)
theorem dX5_passes_24 : decode cX5_passes 24 = .ok (.aload_n 0, 1) := dk_42 (dk_at dksX5_passes_1 0 rfl rfl)
theorem dX5_passes_25 : decode cX5_passes 25 = .ok (.getfield 24, 3) := dk_180 0 24 (dk_at dksX5_passes_1 1 rfl rfl)
theorem dX5_passes_28 : decode cX5_passes 28 = .ok (.invokevirtual 98, 3) := dk_182 0 98 (dk_at dksX5_passes_1 4 rfl rfl)
theorem dX5_passes_31 : decode cX5_passes 31 = .ok (.istore 4, 2) := dk_54 4 (dk_at dksX5_passes_1 7 rfl rfl)
theorem dX5_passes_33 : decode cX5_passes 33 = .ok (.iload 4, 2) := dk_21 4 (dk_at dksX5_passes_1 9 rfl rfl)
theorem dX5_passes_35 : decode cX5_passes 35 = .ok (.iconst 1, 1) := dk_4 (dk_at dksX5_passes_1 11 rfl rfl)
theorem dX5_passes_36 : decode cX5_passes 36 = .ok (.if_icmp .ne 19, 3) := dk_160 0 19 (dk_at dksX5_passes_1 12 rfl rfl)
theorem dX5_passes_39 : decode cX5_passes 39 = .ok (.aload_n 0, 1) := dk_42 (dk_at dksX5_passes_1 15 rfl rfl)
theorem dX5_passes_40 : decode cX5_passes 40 = .ok (.dup, 1) := dk_89 (dk_at dksX5_passes_1 16 rfl rfl)
theorem dX5_passes_41 : decode cX5_passes 41 = .ok (.getfield 50, 3) := dk_180 0 50 (dk_at dksX5_passes_1 17 rfl rfl)
theorem dX5_passes_44 : decode cX5_passes 44 = .ok (.iload_n 3, 1) := dk_29 (dk_at dksX5_passes_1 20 rfl rfl)
theorem dX5_passes_45 : decode cX5_passes 45 = .ok (.iadd, 1) := dk_96 (dk_at dksX5_passes_1 21 rfl rfl)
theorem dX5_passes_46 : decode cX5_passes 46 = .ok (.putfield 50, 3) := dk_181 0 50 (dk_at dksX5_passes_2 0 rfl rfl)
theorem dX5_passes_49 : decode cX5_passes 49 = .ok (.aload_n 0, 1) := dk_42 (dk_at dksX5_passes_2 3 rfl rfl)
theorem dX5_passes_50 : decode cX5_passes 50 = .ok (.iconst 2, 1) := dk_5 (dk_at dksX5_passes_2 4 rfl rfl)
theorem dX5_passes_51 : decode cX5_passes 51 = .ok (.iload_n 1, 1) := dk_27 (dk_at dksX5_passes_2 5 rfl rfl)
theorem dX5_passes_52 : decode cX5_passes 52 = .ok (.invokevirtual 91, 3) := dk_182 0 91 (dk_at dksX5_passes_2 6 rfl rfl)
theorem dX5_passes_55 : decode cX5_passes 55 = .ok (.iload 4, 2) := dk_21 4 (dk_at dksX5_passes_2 9 rfl rfl)
theorem dX5_passes_57 : decode cX5_passes 57 = .ok (.iconst 2, 1) := dk_5 (dk_at dksX5_passes_2 11 rfl rfl)
theorem dX5_passes_58 : decode cX5_passes 58 = .ok (.if_icmp .ne 9, 3) := dk_160 0 9 (dk_at dksX5_passes_2 12 rfl rfl)
theorem dX5_passes_61 : decode cX5_passes 61 = .ok (.aload_n 0, 1) := dk_42 (dk_at dksX5_passes_2 15 rfl rfl)
theorem dX5_passes_62 : decode cX5_passes 62 = .ok (.iconst 1, 1) := dk_4 (dk_at dksX5_passes_2 16 rfl rfl)
theorem dX5_passes_63 : decode cX5_passes 63 = .ok (.iload_n 1, 1) := dk_27 (dk_at dksX5_passes_2 17 rfl rfl)
theorem dX5_passes_64 : decode cX5_passes 64 = .ok (.invokevirtual 91, 3) := dk_182 0 91 (dk_at dksX5_passes_2 18 rfl rfl)
theorem dX5_passes_67 : decode cX5_passes 67 = .ok (.iload 4, 2) := dk_21 4 (dk_at dksX5_passes_2 21 rfl rfl)
theorem dX5_passes_69 : decode cX5_passes 69 = .ok (.ifCond .le 15, 3) := dk_158 0 15 (dk_at dksX5_passes_3 0 rfl rfl)
theorem dX5_passes_72 : decode cX5_passes 72 = .ok (.aload_n 2, 1) := dk_44 (dk_at dksX5_passes_3 3 rfl rfl)
theorem dX5_passes_73 : decode cX5_passes 73 = .ok (.getfield 102, 3) := dk_180 0 102 (dk_at dksX5_passes_3 4 rfl rfl)
theorem dX5_passes_76 : decode cX5_passes 76 = .ok (.iconst (-1), 1) := dk_2 (dk_at dksX5_passes_3 7 rfl rfl)
theorem dX5_passes_77 : decode cX5_passes 77 = .ok (.if_icmp .eq 7, 3) := dk_159 0 7 (dk_at dksX5_passes_3 8 rfl rfl)
theorem dX5_passes_80 : decode cX5_passes 80 = .ok (.iconst 1, 1) := dk_4 (dk_at dksX5_passes_3 11 rfl rfl)
theorem dX5_passes_81 : decode cX5_passes 81 = .ok (.goto 4, 3) := dk_167 0 4 (dk_at dksX5_passes_3 12 rfl rfl)
theorem dX5_passes_84 : decode cX5_passes 84 = .ok (.iconst 0, 1) := dk_3 (dk_at dksX5_passes_3 15 rfl rfl)
theorem dX5_passes_85 : decode cX5_passes 85 = .ok (.istore 5, 2) := dk_54 5 (dk_at dksX5_passes_3 16 rfl rfl)
theorem dX5_passes_87 : decode cX5_passes 87 = .ok (.iload 5, 2) := dk_21 5 (dk_at dksX5_passes_3 18 rfl rfl)
theorem dX5_passes_89 : decode cX5_passes 89 = .ok (.ifCond .eq 9, 3) := dk_153 0 9 (dk_at dksX5_passes_3 20 rfl rfl)
theorem dX5_passes_92 : decode cX5_passes 92 = .ok (.aload_n 0, 1) := dk_42 (dk_at dksX5_passes_3 23 rfl rfl)
theorem dX5_passes_93 : decode cX5_passes 93 = .ok (.iconst 3, 1) := dk_6 (dk_at dksX5_passes_4 0 rfl rfl)
theorem dX5_passes_94 : decode cX5_passes 94 = .ok (.iload_n 1, 1) := dk_27 (dk_at dksX5_passes_4 1 rfl rfl)
theorem dX5_passes_95 : decode cX5_passes 95 = .ok (.invokevirtual 91, 3) := dk_182 0 91 (dk_at dksX5_passes_4 2 rfl rfl)
theorem dX5_passes_98 : decode cX5_passes 98 = .ok (.iload 5, 2) := dk_21 5 (dk_at dksX5_passes_4 5 rfl rfl)
theorem dX5_passes_100 : decode cX5_passes 100 = .ok (.invokestatic 105, 3) := dk_184 0 105 (dk_at dksX5_passes_4 7 rfl rfl)
theorem dX5_passes_103 : decode cX5_passes 103 = .ok (.ireturn, 1) := dk_172 (dk_at dksX5_passes_4 10 rfl rfl)
abbrev cX5_arrived : ByteArray := prog_10_method_8_code
def yX5_arrived : MethodName := ⟨RX5, "arrived", "()I"⟩
def dkwX5_arrived_2 : List UInt8 := [172]
abbrev dktX5_arrived_2 : List UInt8 := dkwX5_arrived_2 ++ []
def dkwX5_arrived_1 : List UInt8 := [180, 0, 102, 2, 159, 0, 7, 4, 167, 0, 4, 3, 184, 0, 105, 96, 60, 132, 2, 1, 167, 255, 217, 27]
abbrev dktX5_arrived_1 : List UInt8 := dkwX5_arrived_1 ++ dktX5_arrived_2
def dkwX5_arrived_0 : List UInt8 := [3, 60, 3, 61, 28, 42, 180, 0, 14, 185, 0, 53, 1, 0, 162, 0, 32, 27, 42, 28, 182, 0, 61]
abbrev dktX5_arrived_0 : List UInt8 := dkwX5_arrived_0 ++ dktX5_arrived_1
theorem dksX5_arrived_0 : cX5_arrived.data.toList.drop 0 = dktX5_arrived_0 := by decide +kernel
theorem dksX5_arrived_1 : cX5_arrived.data.toList.drop 23 = dktX5_arrived_1 := dk_seg dksX5_arrived_0 23 rfl rfl
theorem dksX5_arrived_2 : cX5_arrived.data.toList.drop 47 = dktX5_arrived_2 := dk_seg dksX5_arrived_1 24 rfl rfl
theorem dX5_arrived_0 : decode cX5_arrived 0 = .ok (.iconst 0, 1) := dk_3 (dk_at dksX5_arrived_0 0 rfl rfl)
theorem dX5_arrived_1 : decode cX5_arrived 1 = .ok (.istore_n 1, 1) := dk_60 (dk_at dksX5_arrived_0 1 rfl rfl)
theorem dX5_arrived_2 : decode cX5_arrived 2 = .ok (.iconst 0, 1) := dk_3 (dk_at dksX5_arrived_0 2 rfl rfl)
theorem dX5_arrived_3 : decode cX5_arrived 3 = .ok (.istore_n 2, 1) := dk_61 (dk_at dksX5_arrived_0 3 rfl rfl)
theorem dX5_arrived_4 : decode cX5_arrived 4 = .ok (.iload_n 2, 1) := dk_28 (dk_at dksX5_arrived_0 4 rfl rfl)
theorem dX5_arrived_5 : decode cX5_arrived 5 = .ok (.aload_n 0, 1) := dk_42 (dk_at dksX5_arrived_0 5 rfl rfl)
theorem dX5_arrived_6 : decode cX5_arrived 6 = .ok (.getfield 14, 3) := dk_180 0 14 (dk_at dksX5_arrived_0 6 rfl rfl)
theorem dX5_arrived_9 : decode cX5_arrived 9 = .ok (.invokeinterface 53 1, 5) := by decide +kernel
theorem dX5_arrived_14 : decode cX5_arrived 14 = .ok (.if_icmp .ge 32, 3) := dk_162 0 32 (dk_at dksX5_arrived_0 14 rfl rfl)
theorem dX5_arrived_17 : decode cX5_arrived 17 = .ok (.iload_n 1, 1) := dk_27 (dk_at dksX5_arrived_0 17 rfl rfl)
theorem dX5_arrived_18 : decode cX5_arrived 18 = .ok (.aload_n 0, 1) := dk_42 (dk_at dksX5_arrived_0 18 rfl rfl)
theorem dX5_arrived_19 : decode cX5_arrived 19 = .ok (.iload_n 2, 1) := dk_28 (dk_at dksX5_arrived_0 19 rfl rfl)
theorem dX5_arrived_20 : decode cX5_arrived 20 = .ok (.invokevirtual 61, 3) := dk_182 0 61 (dk_at dksX5_arrived_0 20 rfl rfl)
theorem dX5_arrived_23 : decode cX5_arrived 23 = .ok (.getfield 102, 3) := dk_180 0 102 (dk_at dksX5_arrived_1 0 rfl rfl)
theorem dX5_arrived_26 : decode cX5_arrived 26 = .ok (.iconst (-1), 1) := dk_2 (dk_at dksX5_arrived_1 3 rfl rfl)
theorem dX5_arrived_27 : decode cX5_arrived 27 = .ok (.if_icmp .eq 7, 3) := dk_159 0 7 (dk_at dksX5_arrived_1 4 rfl rfl)
theorem dX5_arrived_30 : decode cX5_arrived 30 = .ok (.iconst 1, 1) := dk_4 (dk_at dksX5_arrived_1 7 rfl rfl)
theorem dX5_arrived_31 : decode cX5_arrived 31 = .ok (.goto 4, 3) := dk_167 0 4 (dk_at dksX5_arrived_1 8 rfl rfl)
theorem dX5_arrived_34 : decode cX5_arrived 34 = .ok (.iconst 0, 1) := dk_3 (dk_at dksX5_arrived_1 11 rfl rfl)
theorem dX5_arrived_35 : decode cX5_arrived 35 = .ok (.invokestatic 105, 3) := dk_184 0 105 (dk_at dksX5_arrived_1 12 rfl rfl)
theorem dX5_arrived_38 : decode cX5_arrived 38 = .ok (.iadd, 1) := dk_96 (dk_at dksX5_arrived_1 15 rfl rfl)
theorem dX5_arrived_39 : decode cX5_arrived 39 = .ok (.istore_n 1, 1) := dk_60 (dk_at dksX5_arrived_1 16 rfl rfl)
theorem dX5_arrived_40 : decode cX5_arrived 40 = .ok (.iinc 2 1, 3) := dk_132 2 1 (dk_at dksX5_arrived_1 17 rfl rfl)
theorem dX5_arrived_43 : decode cX5_arrived 43 = .ok (.goto (-39), 3) := dk_167 255 217 (dk_at dksX5_arrived_1 20 rfl rfl)
theorem dX5_arrived_46 : decode cX5_arrived 46 = .ok (.iload_n 1, 1) := dk_27 (dk_at dksX5_arrived_1 23 rfl rfl)
theorem dX5_arrived_47 : decode cX5_arrived 47 = .ok (.ireturn, 1) := dk_172 (dk_at dksX5_arrived_2 0 rfl rfl)
abbrev cX5_gap : ByteArray := prog_10_method_14_code
def yX5_gap : MethodName := ⟨RX5, "gap", "()I"⟩
def dkwX5_gap_1 : List UInt8 := [42, 28, 182, 0, 61, 182, 0, 138, 96, 60, 132, 2, 1, 167, 255, 229, 27, 172]
abbrev dktX5_gap_1 : List UInt8 := dkwX5_gap_1 ++ []
def dkwX5_gap_0 : List UInt8 := [42, 180, 0, 30, 182, 0, 135, 60, 3, 61, 28, 42, 180, 0, 14, 185, 0, 53, 1, 0, 162, 0, 20, 27]
abbrev dktX5_gap_0 : List UInt8 := dkwX5_gap_0 ++ dktX5_gap_1
theorem dksX5_gap_0 : cX5_gap.data.toList.drop 0 = dktX5_gap_0 := by decide +kernel
theorem dksX5_gap_1 : cX5_gap.data.toList.drop 24 = dktX5_gap_1 := dk_seg dksX5_gap_0 24 rfl rfl
theorem dX5_gap_0 : decode cX5_gap 0 = .ok (.aload_n 0, 1) := dk_42 (dk_at dksX5_gap_0 0 rfl rfl)
theorem dX5_gap_1 : decode cX5_gap 1 = .ok (.getfield 30, 3) := dk_180 0 30 (dk_at dksX5_gap_0 1 rfl rfl)
theorem dX5_gap_4 : decode cX5_gap 4 = .ok (.invokevirtual 135, 3) := dk_182 0 135 (dk_at dksX5_gap_0 4 rfl rfl)
theorem dX5_gap_7 : decode cX5_gap 7 = .ok (.istore_n 1, 1) := dk_60 (dk_at dksX5_gap_0 7 rfl rfl)
theorem dX5_gap_8 : decode cX5_gap 8 = .ok (.iconst 0, 1) := dk_3 (dk_at dksX5_gap_0 8 rfl rfl)
theorem dX5_gap_9 : decode cX5_gap 9 = .ok (.istore_n 2, 1) := dk_61 (dk_at dksX5_gap_0 9 rfl rfl)
theorem dX5_gap_10 : decode cX5_gap 10 = .ok (.iload_n 2, 1) := dk_28 (dk_at dksX5_gap_0 10 rfl rfl)
theorem dX5_gap_11 : decode cX5_gap 11 = .ok (.aload_n 0, 1) := dk_42 (dk_at dksX5_gap_0 11 rfl rfl)
theorem dX5_gap_12 : decode cX5_gap 12 = .ok (.getfield 14, 3) := dk_180 0 14 (dk_at dksX5_gap_0 12 rfl rfl)
theorem dX5_gap_15 : decode cX5_gap 15 = .ok (.invokeinterface 53 1, 5) := by decide +kernel
theorem dX5_gap_20 : decode cX5_gap 20 = .ok (.if_icmp .ge 20, 3) := dk_162 0 20 (dk_at dksX5_gap_0 20 rfl rfl)
theorem dX5_gap_23 : decode cX5_gap 23 = .ok (.iload_n 1, 1) := dk_27 (dk_at dksX5_gap_0 23 rfl rfl)
theorem dX5_gap_24 : decode cX5_gap 24 = .ok (.aload_n 0, 1) := dk_42 (dk_at dksX5_gap_1 0 rfl rfl)
theorem dX5_gap_25 : decode cX5_gap 25 = .ok (.iload_n 2, 1) := dk_28 (dk_at dksX5_gap_1 1 rfl rfl)
theorem dX5_gap_26 : decode cX5_gap 26 = .ok (.invokevirtual 61, 3) := dk_182 0 61 (dk_at dksX5_gap_1 2 rfl rfl)
theorem dX5_gap_29 : decode cX5_gap 29 = .ok (.invokevirtual 138, 3) := dk_182 0 138 (dk_at dksX5_gap_1 5 rfl rfl)
theorem dX5_gap_32 : decode cX5_gap 32 = .ok (.iadd, 1) := dk_96 (dk_at dksX5_gap_1 8 rfl rfl)
theorem dX5_gap_33 : decode cX5_gap 33 = .ok (.istore_n 1, 1) := dk_60 (dk_at dksX5_gap_1 9 rfl rfl)
theorem dX5_gap_34 : decode cX5_gap 34 = .ok (.iinc 2 1, 3) := dk_132 2 1 (dk_at dksX5_gap_1 10 rfl rfl)
theorem dX5_gap_37 : decode cX5_gap 37 = .ok (.goto (-27), 3) := dk_167 255 229 (dk_at dksX5_gap_1 13 rfl rfl)
theorem dX5_gap_40 : decode cX5_gap 40 = .ok (.iload_n 1, 1) := dk_27 (dk_at dksX5_gap_1 16 rfl rfl)
theorem dX5_gap_41 : decode cX5_gap 41 = .ok (.ireturn, 1) := dk_172 (dk_at dksX5_gap_1 17 rfl rfl)
abbrev cX5_then : ByteArray := prog_10_method_11_code
def yX5_then : MethodName := ⟨RX5, "then", "(I)LVotingHuts$Message;"⟩
def dkwX5_then_0 : List UInt8 := [42, 42, 27, 182, 0, 61, 42, 180, 0, 30, 42, 180, 0, 47, 42, 180, 0, 24, 182, 0, 118, 176]
abbrev dktX5_then_0 : List UInt8 := dkwX5_then_0 ++ []
theorem dksX5_then_0 : cX5_then.data.toList.drop 0 = dktX5_then_0 := by decide +kernel
theorem dX5_then_0 : decode cX5_then 0 = .ok (.aload_n 0, 1) := dk_42 (dk_at dksX5_then_0 0 rfl rfl)
theorem dX5_then_1 : decode cX5_then 1 = .ok (.aload_n 0, 1) := dk_42 (dk_at dksX5_then_0 1 rfl rfl)
theorem dX5_then_2 : decode cX5_then 2 = .ok (.iload_n 1, 1) := dk_27 (dk_at dksX5_then_0 2 rfl rfl)
theorem dX5_then_3 : decode cX5_then 3 = .ok (.invokevirtual 61, 3) := dk_182 0 61 (dk_at dksX5_then_0 3 rfl rfl)
theorem dX5_then_6 : decode cX5_then 6 = .ok (.aload_n 0, 1) := dk_42 (dk_at dksX5_then_0 6 rfl rfl)
theorem dX5_then_7 : decode cX5_then 7 = .ok (.getfield 30, 3) := dk_180 0 30 (dk_at dksX5_then_0 7 rfl rfl)
theorem dX5_then_10 : decode cX5_then 10 = .ok (.aload_n 0, 1) := dk_42 (dk_at dksX5_then_0 10 rfl rfl)
theorem dX5_then_11 : decode cX5_then 11 = .ok (.getfield 47, 3) := dk_180 0 47 (dk_at dksX5_then_0 11 rfl rfl)
theorem dX5_then_14 : decode cX5_then 14 = .ok (.aload_n 0, 1) := dk_42 (dk_at dksX5_then_0 14 rfl rfl)
theorem dX5_then_15 : decode cX5_then 15 = .ok (.getfield 24, 3) := dk_180 0 24 (dk_at dksX5_then_0 15 rfl rfl)
theorem dX5_then_18 : decode cX5_then 18 = .ok (.invokevirtual 118, 3) := dk_182 0 118 (dk_at dksX5_then_0 18 rfl rfl)
theorem dX5_then_21 : decode cX5_then 21 = .ok (.areturn, 1) := dk_176 (dk_at dksX5_then_0 21 rfl rfl)
abbrev cX5_then_2 : ByteArray := prog_10_method_10_code
def yX5_then_2 : MethodName := ⟨RX5, "then", "(LVotingHuts$Message;LVotingHuts$Wires;II)LVotingHuts$Message;"⟩
def dkwX5_then_2_2 : List UInt8 := [54, 8, 132, 7, 1, 167, 255, 227, 25, 5, 176]
abbrev dktX5_then_2_2 : List UInt8 := dkwX5_then_2_2 ++ []
def dkwX5_then_2_1 : List UInt8 := [25, 5, 180, 0, 102, 2, 160, 0, 26, 25, 5, 25, 6, 21, 7, 42, 180, 0, 20, 21, 4, 182, 0, 98]
abbrev dktX5_then_2_1 : List UInt8 := dkwX5_then_2_1 ++ dktX5_then_2_2
def dkwX5_then_2_0 : List UInt8 := [187, 0, 59, 89, 43, 183, 0, 65, 58, 5, 187, 0, 27, 89, 44, 183, 0, 41, 58, 6, 29, 54, 7]
abbrev dktX5_then_2_0 : List UInt8 := dkwX5_then_2_0 ++ dktX5_then_2_1
theorem dksX5_then_2_0 : cX5_then_2.data.toList.drop 0 = dktX5_then_2_0 := by decide +kernel
theorem dksX5_then_2_1 : cX5_then_2.data.toList.drop 23 = dktX5_then_2_1 := dk_seg dksX5_then_2_0 23 rfl rfl
theorem dksX5_then_2_2 : cX5_then_2.data.toList.drop 47 = dktX5_then_2_2 := dk_seg dksX5_then_2_1 24 rfl rfl
theorem dX5_then_2_0 : decode cX5_then_2 0 = .ok (.new 59, 3) := dk_187 0 59 (dk_at dksX5_then_2_0 0 rfl rfl)
theorem dX5_then_2_3 : decode cX5_then_2 3 = .ok (.dup, 1) := dk_89 (dk_at dksX5_then_2_0 3 rfl rfl)
theorem dX5_then_2_4 : decode cX5_then_2 4 = .ok (.aload_n 1, 1) := dk_43 (dk_at dksX5_then_2_0 4 rfl rfl)
theorem dX5_then_2_5 : decode cX5_then_2 5 = .ok (.invokespecial 65, 3) := dk_183 0 65 (dk_at dksX5_then_2_0 5 rfl rfl)
theorem dX5_then_2_8 : decode cX5_then_2 8 = .ok (.astore 5, 2) := dk_58 5 (dk_at dksX5_then_2_0 8 rfl rfl)
theorem dX5_then_2_10 : decode cX5_then_2 10 = .ok (.new 27, 3) := dk_187 0 27 (dk_at dksX5_then_2_0 10 rfl rfl)
theorem dX5_then_2_13 : decode cX5_then_2 13 = .ok (.dup, 1) := dk_89 (dk_at dksX5_then_2_0 13 rfl rfl)
theorem dX5_then_2_14 : decode cX5_then_2 14 = .ok (.aload_n 2, 1) := dk_44 (dk_at dksX5_then_2_0 14 rfl rfl)
theorem dX5_then_2_15 : decode cX5_then_2 15 = .ok (.invokespecial 41, 3) := dk_183 0 41 (dk_at dksX5_then_2_0 15 rfl rfl)
theorem dX5_then_2_18 : decode cX5_then_2 18 = .ok (.astore 6, 2) := dk_58 6 (dk_at dksX5_then_2_0 18 rfl rfl)
theorem dX5_then_2_20 : decode cX5_then_2 20 = .ok (.iload_n 3, 1) := dk_29 (dk_at dksX5_then_2_0 20 rfl rfl)
theorem dX5_then_2_21 : decode cX5_then_2 21 = .ok (.istore 7, 2) := dk_54 7 (dk_at dksX5_then_2_0 21 rfl rfl)
theorem dX5_then_2_23 : decode cX5_then_2 23 = .ok (.aload 5, 2) := dk_25 5 (dk_at dksX5_then_2_1 0 rfl rfl)
theorem dX5_then_2_25 : decode cX5_then_2 25 = .ok (.getfield 102, 3) := dk_180 0 102 (dk_at dksX5_then_2_1 2 rfl rfl)
theorem dX5_then_2_28 : decode cX5_then_2 28 = .ok (.iconst (-1), 1) := dk_2 (dk_at dksX5_then_2_1 5 rfl rfl)
theorem dX5_then_2_29 : decode cX5_then_2 29 = .ok (.if_icmp .ne 26, 3) := dk_160 0 26 (dk_at dksX5_then_2_1 6 rfl rfl)
theorem dX5_then_2_32 : decode cX5_then_2 32 = .ok (.aload 5, 2) := dk_25 5 (dk_at dksX5_then_2_1 9 rfl rfl)
theorem dX5_then_2_34 : decode cX5_then_2 34 = .ok (.aload 6, 2) := dk_25 6 (dk_at dksX5_then_2_1 11 rfl rfl)
theorem dX5_then_2_36 : decode cX5_then_2 36 = .ok (.iload 7, 2) := dk_21 7 (dk_at dksX5_then_2_1 13 rfl rfl)
theorem dX5_then_2_38 : decode cX5_then_2 38 = .ok (.aload_n 0, 1) := dk_42 (dk_at dksX5_then_2_1 15 rfl rfl)
theorem dX5_then_2_39 : decode cX5_then_2 39 = .ok (.getfield 20, 3) := dk_180 0 20 (dk_at dksX5_then_2_1 16 rfl rfl)
theorem dX5_then_2_42 : decode cX5_then_2 42 = .ok (.iload 4, 2) := dk_21 4 (dk_at dksX5_then_2_1 19 rfl rfl)
theorem dX5_then_2_44 : decode cX5_then_2 44 = .ok (.invokevirtual 98, 3) := dk_182 0 98 (dk_at dksX5_then_2_1 21 rfl rfl)
theorem dX5_then_2_47 : decode cX5_then_2 47 = .ok (.istore 8, 2) := dk_54 8 (dk_at dksX5_then_2_2 0 rfl rfl)
theorem dX5_then_2_49 : decode cX5_then_2 49 = .ok (.iinc 7 1, 3) := dk_132 7 1 (dk_at dksX5_then_2_2 2 rfl rfl)
theorem dX5_then_2_52 : decode cX5_then_2 52 = .ok (.goto (-29), 3) := dk_167 255 227 (dk_at dksX5_then_2_2 5 rfl rfl)
theorem dX5_then_2_55 : decode cX5_then_2 55 = .ok (.aload 5, 2) := dk_25 5 (dk_at dksX5_then_2_2 8 rfl rfl)
theorem dX5_then_2_57 : decode cX5_then_2 57 = .ok (.areturn, 1) := dk_176 (dk_at dksX5_then_2_2 10 rfl rfl)
abbrev cX5_init_2 : ByteArray := prog_10_method_2_code
def yX5_init_2 : MethodName := ⟨RX5, "<init>", "(LVotingHuts$World;)V"⟩
def dkwX5_init_2_5 : List UInt8 := [62, 132, 2, 1, 167, 255, 218, 177]
abbrev dktX5_init_2_5 : List UInt8 := dkwX5_init_2_5 ++ []
def dkwX5_init_2_4 : List UInt8 := [162, 0, 31, 42, 180, 0, 14, 187, 0, 59, 89, 43, 28, 182, 0, 61, 183, 0, 65, 185, 0, 68, 2, 0]
abbrev dktX5_init_2_4 : List UInt8 := dkwX5_init_2_4 ++ dktX5_init_2_5
def dkwX5_init_2_3 : List UInt8 := [181, 0, 47, 42, 43, 180, 0, 50, 181, 0, 50, 3, 61, 28, 43, 180, 0, 14, 185, 0, 53, 1, 0]
abbrev dktX5_init_2_3 : List UInt8 := dkwX5_init_2_3 ++ dktX5_init_2_4
def dkwX5_init_2_2 : List UInt8 := [181, 0, 30, 42, 187, 0, 34, 89, 43, 180, 0, 37, 183, 0, 44, 181, 0, 37, 42, 43, 180, 0, 47]
abbrev dktX5_init_2_2 : List UInt8 := dkwX5_init_2_2 ++ dktX5_init_2_3
def dkwX5_init_2_1 : List UInt8 := [181, 0, 20, 42, 43, 180, 0, 24, 181, 0, 24, 42, 187, 0, 27, 89, 43, 180, 0, 30, 183, 0, 41]
abbrev dktX5_init_2_1 : List UInt8 := dkwX5_init_2_1 ++ dktX5_init_2_2
def dkwX5_init_2_0 : List UInt8 := [42, 183, 0, 3, 42, 187, 0, 9, 89, 16, 6, 183, 0, 11, 181, 0, 14, 42, 43, 180, 0, 20]
abbrev dktX5_init_2_0 : List UInt8 := dkwX5_init_2_0 ++ dktX5_init_2_1
theorem dksX5_init_2_0 : cX5_init_2.data.toList.drop 0 = dktX5_init_2_0 := by decide +kernel
theorem dksX5_init_2_1 : cX5_init_2.data.toList.drop 22 = dktX5_init_2_1 := dk_seg dksX5_init_2_0 22 rfl rfl
theorem dksX5_init_2_2 : cX5_init_2.data.toList.drop 45 = dktX5_init_2_2 := dk_seg dksX5_init_2_1 23 rfl rfl
theorem dksX5_init_2_3 : cX5_init_2.data.toList.drop 68 = dktX5_init_2_3 := dk_seg dksX5_init_2_2 23 rfl rfl
theorem dksX5_init_2_4 : cX5_init_2.data.toList.drop 91 = dktX5_init_2_4 := dk_seg dksX5_init_2_3 23 rfl rfl
theorem dksX5_init_2_5 : cX5_init_2.data.toList.drop 115 = dktX5_init_2_5 := dk_seg dksX5_init_2_4 24 rfl rfl
theorem dX5_init_2_0 : decode cX5_init_2 0 = .ok (.aload_n 0, 1) := dk_42 (dk_at dksX5_init_2_0 0 rfl rfl)
theorem dX5_init_2_1 : decode cX5_init_2 1 = .ok (.invokespecial 3, 3) := dk_183 0 3 (dk_at dksX5_init_2_0 1 rfl rfl)
theorem dX5_init_2_4 : decode cX5_init_2 4 = .ok (.aload_n 0, 1) := dk_42 (dk_at dksX5_init_2_0 4 rfl rfl)
theorem dX5_init_2_5 : decode cX5_init_2 5 = .ok (.new 9, 3) := dk_187 0 9 (dk_at dksX5_init_2_0 5 rfl rfl)
theorem dX5_init_2_8 : decode cX5_init_2 8 = .ok (.dup, 1) := dk_89 (dk_at dksX5_init_2_0 8 rfl rfl)
theorem dX5_init_2_9 : decode cX5_init_2 9 = .ok (.bipush 6, 2) := dk_16 6 (dk_at dksX5_init_2_0 9 rfl rfl)
theorem dX5_init_2_11 : decode cX5_init_2 11 = .ok (.invokespecial 11, 3) := dk_183 0 11 (dk_at dksX5_init_2_0 11 rfl rfl)
theorem dX5_init_2_14 : decode cX5_init_2 14 = .ok (.putfield 14, 3) := dk_181 0 14 (dk_at dksX5_init_2_0 14 rfl rfl)
theorem dX5_init_2_17 : decode cX5_init_2 17 = .ok (.aload_n 0, 1) := dk_42 (dk_at dksX5_init_2_0 17 rfl rfl)
theorem dX5_init_2_18 : decode cX5_init_2 18 = .ok (.aload_n 1, 1) := dk_43 (dk_at dksX5_init_2_0 18 rfl rfl)
theorem dX5_init_2_19 : decode cX5_init_2 19 = .ok (.getfield 20, 3) := dk_180 0 20 (dk_at dksX5_init_2_0 19 rfl rfl)
theorem dX5_init_2_22 : decode cX5_init_2 22 = .ok (.putfield 20, 3) := dk_181 0 20 (dk_at dksX5_init_2_1 0 rfl rfl)
theorem dX5_init_2_25 : decode cX5_init_2 25 = .ok (.aload_n 0, 1) := dk_42 (dk_at dksX5_init_2_1 3 rfl rfl)
theorem dX5_init_2_26 : decode cX5_init_2 26 = .ok (.aload_n 1, 1) := dk_43 (dk_at dksX5_init_2_1 4 rfl rfl)
theorem dX5_init_2_27 : decode cX5_init_2 27 = .ok (.getfield 24, 3) := dk_180 0 24 (dk_at dksX5_init_2_1 5 rfl rfl)
theorem dX5_init_2_30 : decode cX5_init_2 30 = .ok (.putfield 24, 3) := dk_181 0 24 (dk_at dksX5_init_2_1 8 rfl rfl)
theorem dX5_init_2_33 : decode cX5_init_2 33 = .ok (.aload_n 0, 1) := dk_42 (dk_at dksX5_init_2_1 11 rfl rfl)
theorem dX5_init_2_34 : decode cX5_init_2 34 = .ok (.new 27, 3) := dk_187 0 27 (dk_at dksX5_init_2_1 12 rfl rfl)
theorem dX5_init_2_37 : decode cX5_init_2 37 = .ok (.dup, 1) := dk_89 (dk_at dksX5_init_2_1 15 rfl rfl)
theorem dX5_init_2_38 : decode cX5_init_2 38 = .ok (.aload_n 1, 1) := dk_43 (dk_at dksX5_init_2_1 16 rfl rfl)
theorem dX5_init_2_39 : decode cX5_init_2 39 = .ok (.getfield 30, 3) := dk_180 0 30 (dk_at dksX5_init_2_1 17 rfl rfl)
theorem dX5_init_2_42 : decode cX5_init_2 42 = .ok (.invokespecial 41, 3) := dk_183 0 41 (dk_at dksX5_init_2_1 20 rfl rfl)
theorem dX5_init_2_45 : decode cX5_init_2 45 = .ok (.putfield 30, 3) := dk_181 0 30 (dk_at dksX5_init_2_2 0 rfl rfl)
theorem dX5_init_2_48 : decode cX5_init_2 48 = .ok (.aload_n 0, 1) := dk_42 (dk_at dksX5_init_2_2 3 rfl rfl)
theorem dX5_init_2_49 : decode cX5_init_2 49 = .ok (.new 34, 3) := dk_187 0 34 (dk_at dksX5_init_2_2 4 rfl rfl)
theorem dX5_init_2_52 : decode cX5_init_2 52 = .ok (.dup, 1) := dk_89 (dk_at dksX5_init_2_2 7 rfl rfl)
theorem dX5_init_2_53 : decode cX5_init_2 53 = .ok (.aload_n 1, 1) := dk_43 (dk_at dksX5_init_2_2 8 rfl rfl)
theorem dX5_init_2_54 : decode cX5_init_2 54 = .ok (.getfield 37, 3) := dk_180 0 37 (dk_at dksX5_init_2_2 9 rfl rfl)
theorem dX5_init_2_57 : decode cX5_init_2 57 = .ok (.invokespecial 44, 3) := dk_183 0 44 (dk_at dksX5_init_2_2 12 rfl rfl)
theorem dX5_init_2_60 : decode cX5_init_2 60 = .ok (.putfield 37, 3) := dk_181 0 37 (dk_at dksX5_init_2_2 15 rfl rfl)
theorem dX5_init_2_63 : decode cX5_init_2 63 = .ok (.aload_n 0, 1) := dk_42 (dk_at dksX5_init_2_2 18 rfl rfl)
theorem dX5_init_2_64 : decode cX5_init_2 64 = .ok (.aload_n 1, 1) := dk_43 (dk_at dksX5_init_2_2 19 rfl rfl)
theorem dX5_init_2_65 : decode cX5_init_2 65 = .ok (.getfield 47, 3) := dk_180 0 47 (dk_at dksX5_init_2_2 20 rfl rfl)
theorem dX5_init_2_68 : decode cX5_init_2 68 = .ok (.putfield 47, 3) := dk_181 0 47 (dk_at dksX5_init_2_3 0 rfl rfl)
theorem dX5_init_2_71 : decode cX5_init_2 71 = .ok (.aload_n 0, 1) := dk_42 (dk_at dksX5_init_2_3 3 rfl rfl)
theorem dX5_init_2_72 : decode cX5_init_2 72 = .ok (.aload_n 1, 1) := dk_43 (dk_at dksX5_init_2_3 4 rfl rfl)
theorem dX5_init_2_73 : decode cX5_init_2 73 = .ok (.getfield 50, 3) := dk_180 0 50 (dk_at dksX5_init_2_3 5 rfl rfl)
theorem dX5_init_2_76 : decode cX5_init_2 76 = .ok (.putfield 50, 3) := dk_181 0 50 (dk_at dksX5_init_2_3 8 rfl rfl)
theorem dX5_init_2_79 : decode cX5_init_2 79 = .ok (.iconst 0, 1) := dk_3 (dk_at dksX5_init_2_3 11 rfl rfl)
theorem dX5_init_2_80 : decode cX5_init_2 80 = .ok (.istore_n 2, 1) := dk_61 (dk_at dksX5_init_2_3 12 rfl rfl)
theorem dX5_init_2_81 : decode cX5_init_2 81 = .ok (.iload_n 2, 1) := dk_28 (dk_at dksX5_init_2_3 13 rfl rfl)
theorem dX5_init_2_82 : decode cX5_init_2 82 = .ok (.aload_n 1, 1) := dk_43 (dk_at dksX5_init_2_3 14 rfl rfl)
theorem dX5_init_2_83 : decode cX5_init_2 83 = .ok (.getfield 14, 3) := dk_180 0 14 (dk_at dksX5_init_2_3 15 rfl rfl)
theorem dX5_init_2_86 : decode cX5_init_2 86 = .ok (.invokeinterface 53 1, 5) := by decide +kernel
theorem dX5_init_2_91 : decode cX5_init_2 91 = .ok (.if_icmp .ge 31, 3) := dk_162 0 31 (dk_at dksX5_init_2_4 0 rfl rfl)
theorem dX5_init_2_94 : decode cX5_init_2 94 = .ok (.aload_n 0, 1) := dk_42 (dk_at dksX5_init_2_4 3 rfl rfl)
theorem dX5_init_2_95 : decode cX5_init_2 95 = .ok (.getfield 14, 3) := dk_180 0 14 (dk_at dksX5_init_2_4 4 rfl rfl)
theorem dX5_init_2_98 : decode cX5_init_2 98 = .ok (.new 59, 3) := dk_187 0 59 (dk_at dksX5_init_2_4 7 rfl rfl)
theorem dX5_init_2_101 : decode cX5_init_2 101 = .ok (.dup, 1) := dk_89 (dk_at dksX5_init_2_4 10 rfl rfl)
theorem dX5_init_2_102 : decode cX5_init_2 102 = .ok (.aload_n 1, 1) := dk_43 (dk_at dksX5_init_2_4 11 rfl rfl)
theorem dX5_init_2_103 : decode cX5_init_2 103 = .ok (.iload_n 2, 1) := dk_28 (dk_at dksX5_init_2_4 12 rfl rfl)
theorem dX5_init_2_104 : decode cX5_init_2 104 = .ok (.invokevirtual 61, 3) := dk_182 0 61 (dk_at dksX5_init_2_4 13 rfl rfl)
theorem dX5_init_2_107 : decode cX5_init_2 107 = .ok (.invokespecial 65, 3) := dk_183 0 65 (dk_at dksX5_init_2_4 16 rfl rfl)
theorem dX5_init_2_110 : decode cX5_init_2 110 = .ok (.invokeinterface 68 2, 5) := by decide +kernel
theorem dX5_init_2_115 : decode cX5_init_2 115 = .ok (.istore_n 3, 1) := dk_62 (dk_at dksX5_init_2_5 0 rfl rfl)
theorem dX5_init_2_116 : decode cX5_init_2 116 = .ok (.iinc 2 1, 3) := dk_132 2 1 (dk_at dksX5_init_2_5 1 rfl rfl)
theorem dX5_init_2_119 : decode cX5_init_2 119 = .ok (.goto (-38), 3) := dk_167 255 218 (dk_at dksX5_init_2_5 4 rfl rfl)
theorem dX5_init_2_122 : decode cX5_init_2 122 = .ok (.return_, 1) := dk_177 (dk_at dksX5_init_2_5 7 rfl rfl)
abbrev cX5_then_3 : ByteArray := prog_10_method_12_code
def yX5_then_3 : MethodName := ⟨RX5, "then", "(ILVotingHuts$Wires;)LVotingHuts$Message;"⟩
def dkwX5_then_3_0 : List UInt8 := [42, 42, 27, 182, 0, 61, 44, 42, 180, 0, 47, 42, 180, 0, 24, 182, 0, 118, 176]
abbrev dktX5_then_3_0 : List UInt8 := dkwX5_then_3_0 ++ []
theorem dksX5_then_3_0 : cX5_then_3.data.toList.drop 0 = dktX5_then_3_0 := by decide +kernel
theorem dX5_then_3_0 : decode cX5_then_3 0 = .ok (.aload_n 0, 1) := dk_42 (dk_at dksX5_then_3_0 0 rfl rfl)
theorem dX5_then_3_1 : decode cX5_then_3 1 = .ok (.aload_n 0, 1) := dk_42 (dk_at dksX5_then_3_0 1 rfl rfl)
theorem dX5_then_3_2 : decode cX5_then_3 2 = .ok (.iload_n 1, 1) := dk_27 (dk_at dksX5_then_3_0 2 rfl rfl)
theorem dX5_then_3_3 : decode cX5_then_3 3 = .ok (.invokevirtual 61, 3) := dk_182 0 61 (dk_at dksX5_then_3_0 3 rfl rfl)
theorem dX5_then_3_6 : decode cX5_then_3 6 = .ok (.aload_n 2, 1) := dk_44 (dk_at dksX5_then_3_0 6 rfl rfl)
theorem dX5_then_3_7 : decode cX5_then_3 7 = .ok (.aload_n 0, 1) := dk_42 (dk_at dksX5_then_3_0 7 rfl rfl)
theorem dX5_then_3_8 : decode cX5_then_3 8 = .ok (.getfield 47, 3) := dk_180 0 47 (dk_at dksX5_then_3_0 8 rfl rfl)
theorem dX5_then_3_11 : decode cX5_then_3 11 = .ok (.aload_n 0, 1) := dk_42 (dk_at dksX5_then_3_0 11 rfl rfl)
theorem dX5_then_3_12 : decode cX5_then_3 12 = .ok (.getfield 24, 3) := dk_180 0 24 (dk_at dksX5_then_3_0 12 rfl rfl)
theorem dX5_then_3_15 : decode cX5_then_3 15 = .ok (.invokevirtual 118, 3) := dk_182 0 118 (dk_at dksX5_then_3_0 15 rfl rfl)
theorem dX5_then_3_18 : decode cX5_then_3 18 = .ok (.areturn, 1) := dk_176 (dk_at dksX5_then_3_0 18 rfl rfl)
abbrev cX5_isNeedless : ByteArray := prog_10_method_13_code
def yX5_isNeedless : MethodName := ⟨RX5, "isNeedless", "(LVotingHuts$Message;II)Z"⟩
def dkwX5_isNeedless_2 : List UInt8 := [167, 255, 226, 4, 172]
abbrev dktX5_isNeedless_2 : List UInt8 := dkwX5_isNeedless_2 ++ []
def dkwX5_isNeedless_1 : List UInt8 := [162, 0, 27, 43, 21, 5, 182, 0, 132, 25, 4, 21, 5, 182, 0, 132, 159, 0, 5, 3, 172, 132, 5, 1]
abbrev dktX5_isNeedless_1 : List UInt8 := dkwX5_isNeedless_1 ++ dktX5_isNeedless_2
def dkwX5_isNeedless_0 : List UInt8 := [42, 28, 42, 180, 0, 30, 29, 182, 0, 122, 182, 0, 126, 58, 4, 3, 54, 5, 21, 5, 43, 182, 0, 129]
abbrev dktX5_isNeedless_0 : List UInt8 := dkwX5_isNeedless_0 ++ dktX5_isNeedless_1
theorem dksX5_isNeedless_0 : cX5_isNeedless.data.toList.drop 0 = dktX5_isNeedless_0 := by decide +kernel
theorem dksX5_isNeedless_1 : cX5_isNeedless.data.toList.drop 24 = dktX5_isNeedless_1 := dk_seg dksX5_isNeedless_0 24 rfl rfl
theorem dksX5_isNeedless_2 : cX5_isNeedless.data.toList.drop 48 = dktX5_isNeedless_2 := dk_seg dksX5_isNeedless_1 24 rfl rfl
theorem dX5_isNeedless_0 : decode cX5_isNeedless 0 = .ok (.aload_n 0, 1) := dk_42 (dk_at dksX5_isNeedless_0 0 rfl rfl)
theorem dX5_isNeedless_1 : decode cX5_isNeedless 1 = .ok (.iload_n 2, 1) := dk_28 (dk_at dksX5_isNeedless_0 1 rfl rfl)
theorem dX5_isNeedless_2 : decode cX5_isNeedless 2 = .ok (.aload_n 0, 1) := dk_42 (dk_at dksX5_isNeedless_0 2 rfl rfl)
theorem dX5_isNeedless_3 : decode cX5_isNeedless 3 = .ok (.getfield 30, 3) := dk_180 0 30 (dk_at dksX5_isNeedless_0 3 rfl rfl)
theorem dX5_isNeedless_6 : decode cX5_isNeedless 6 = .ok (.iload_n 3, 1) := dk_29 (dk_at dksX5_isNeedless_0 6 rfl rfl)
theorem dX5_isNeedless_7 : decode cX5_isNeedless 7 = .ok (.invokevirtual 122, 3) := dk_182 0 122 (dk_at dksX5_isNeedless_0 7 rfl rfl)
theorem dX5_isNeedless_10 : decode cX5_isNeedless 10 = .ok (.invokevirtual 126, 3) := dk_182 0 126 (dk_at dksX5_isNeedless_0 10 rfl rfl)
theorem dX5_isNeedless_13 : decode cX5_isNeedless 13 = .ok (.astore 4, 2) := dk_58 4 (dk_at dksX5_isNeedless_0 13 rfl rfl)
theorem dX5_isNeedless_15 : decode cX5_isNeedless 15 = .ok (.iconst 0, 1) := dk_3 (dk_at dksX5_isNeedless_0 15 rfl rfl)
theorem dX5_isNeedless_16 : decode cX5_isNeedless 16 = .ok (.istore 5, 2) := dk_54 5 (dk_at dksX5_isNeedless_0 16 rfl rfl)
theorem dX5_isNeedless_18 : decode cX5_isNeedless 18 = .ok (.iload 5, 2) := dk_21 5 (dk_at dksX5_isNeedless_0 18 rfl rfl)
theorem dX5_isNeedless_20 : decode cX5_isNeedless 20 = .ok (.aload_n 1, 1) := dk_43 (dk_at dksX5_isNeedless_0 20 rfl rfl)
theorem dX5_isNeedless_21 : decode cX5_isNeedless 21 = .ok (.invokevirtual 129, 3) := dk_182 0 129 (dk_at dksX5_isNeedless_0 21 rfl rfl)
theorem dX5_isNeedless_24 : decode cX5_isNeedless 24 = .ok (.if_icmp .ge 27, 3) := dk_162 0 27 (dk_at dksX5_isNeedless_1 0 rfl rfl)
theorem dX5_isNeedless_27 : decode cX5_isNeedless 27 = .ok (.aload_n 1, 1) := dk_43 (dk_at dksX5_isNeedless_1 3 rfl rfl)
theorem dX5_isNeedless_28 : decode cX5_isNeedless 28 = .ok (.iload 5, 2) := dk_21 5 (dk_at dksX5_isNeedless_1 4 rfl rfl)
theorem dX5_isNeedless_30 : decode cX5_isNeedless 30 = .ok (.invokevirtual 132, 3) := dk_182 0 132 (dk_at dksX5_isNeedless_1 6 rfl rfl)
theorem dX5_isNeedless_33 : decode cX5_isNeedless 33 = .ok (.aload 4, 2) := dk_25 4 (dk_at dksX5_isNeedless_1 9 rfl rfl)
theorem dX5_isNeedless_35 : decode cX5_isNeedless 35 = .ok (.iload 5, 2) := dk_21 5 (dk_at dksX5_isNeedless_1 11 rfl rfl)
theorem dX5_isNeedless_37 : decode cX5_isNeedless 37 = .ok (.invokevirtual 132, 3) := dk_182 0 132 (dk_at dksX5_isNeedless_1 13 rfl rfl)
theorem dX5_isNeedless_40 : decode cX5_isNeedless 40 = .ok (.if_icmp .eq 5, 3) := dk_159 0 5 (dk_at dksX5_isNeedless_1 16 rfl rfl)
theorem dX5_isNeedless_43 : decode cX5_isNeedless 43 = .ok (.iconst 0, 1) := dk_3 (dk_at dksX5_isNeedless_1 19 rfl rfl)
theorem dX5_isNeedless_44 : decode cX5_isNeedless 44 = .ok (.ireturn, 1) := dk_172 (dk_at dksX5_isNeedless_1 20 rfl rfl)
theorem dX5_isNeedless_45 : decode cX5_isNeedless 45 = .ok (.iinc 5 1, 3) := dk_132 5 1 (dk_at dksX5_isNeedless_1 21 rfl rfl)
theorem dX5_isNeedless_48 : decode cX5_isNeedless 48 = .ok (.goto (-30), 3) := dk_167 255 226 (dk_at dksX5_isNeedless_2 0 rfl rfl)
theorem dX5_isNeedless_51 : decode cX5_isNeedless 51 = .ok (.iconst 1, 1) := dk_4 (dk_at dksX5_isNeedless_2 3 rfl rfl)
theorem dX5_isNeedless_52 : decode cX5_isNeedless 52 = .ok (.ireturn, 1) := dk_172 (dk_at dksX5_isNeedless_2 4 rfl rfl)
theorem q159 : (Jvm.Cond.initialized "VotingHuts$World") ∈ lw_all := lw_g (lw_at lw_m1 27 rfl) rfl
theorem q757 : (Jvm.Cond.instantiable "VotingHuts$World" (7 : Nat)) ∈ lw_all := lw_g (lw_at lw_m3 145 rfl) rfl
theorem q759 : (Jvm.Cond.instanceMethod ({ cls := "VotingHuts$World", name := "<init>", desc := "(II)V" } : Jvm.MethodName)) ∈ lw_all := lw_g (lw_at lw_m3 147 rfl) rfl
theorem q760 : (Jvm.Cond.code ({ cls := "VotingHuts$World", name := "<init>", desc := "(II)V" } : Jvm.MethodName) prog_10_method_1_code (3 : Nat) (Option.none : Option Jvm.ClassFile.FieldType)) ∈ lw_all := lw_g (lw_at lw_m3 148 rfl) rfl
theorem q761 : (Jvm.Cond.methodLink "VotingHuts$World" (3 : Nat) ({ cls := "java/lang/Object", name := "<init>", desc := "()V" } : Jvm.MethodName)) ∈ lw_all := lw_g (lw_at lw_m3 149 rfl) rfl
theorem q762 : (Jvm.Cond.classLink "VotingHuts$World" (9 : Nat) "java/util/ArrayList") ∈ lw_all := lw_g (lw_at lw_m3 150 rfl) rfl
theorem q764 : (Jvm.Cond.methodLink "VotingHuts$World" (11 : Nat) ({ cls := "java/util/ArrayList", name := "<init>", desc := "(I)V" } : Jvm.MethodName)) ∈ lw_all := lw_g (lw_at lw_m3 152 rfl) rfl
theorem q797 : (Jvm.Cond.classLink "VotingHuts$World" (27 : Nat) "VotingHuts$Wires") ∈ lw_all := lw_g (lw_at lw_m3 185 rfl) rfl
theorem q799 : (Jvm.Cond.methodLink "VotingHuts$World" (29 : Nat) ({ cls := "VotingHuts$Wires", name := "<init>", desc := "(I)V" } : Jvm.MethodName)) ∈ lw_all := lw_g (lw_at lw_m3 187 rfl) rfl
theorem q840 : (Jvm.Cond.classLink "VotingHuts$World" (34 : Nat) "VotingHuts$Kept") ∈ lw_all := lw_g (lw_at lw_m3 228 rfl) rfl
theorem q842 : (Jvm.Cond.methodLink "VotingHuts$World" (36 : Nat) ({ cls := "VotingHuts$Kept", name := "<init>", desc := "(I)V" } : Jvm.MethodName)) ∈ lw_all := lw_g (lw_at lw_m3 230 rfl) rfl
theorem q860 : (Jvm.Cond.fieldLink "VotingHuts$World" (20 : Nat) "VotingHuts$World" "levels" "I") ∈ lw_all := lw_g (lw_at lw_m4 8 rfl) rfl
theorem q863 : (Jvm.Cond.fieldLink "VotingHuts$World" (30 : Nat) "VotingHuts$World" "wires" "LVotingHuts$Wires;") ∈ lw_all := lw_g (lw_at lw_m4 11 rfl) rfl
theorem q866 : (Jvm.Cond.fieldLink "VotingHuts$World" (14 : Nat) "VotingHuts$World" "messages" "Ljava/util/List;") ∈ lw_all := lw_g (lw_at lw_m4 14 rfl) rfl
theorem q869 : (Jvm.Cond.fieldLink "VotingHuts$World" (37 : Nat) "VotingHuts$World" "log" "LVotingHuts$Kept;") ∈ lw_all := lw_g (lw_at lw_m4 17 rfl) rfl
theorem q871 : (Jvm.Cond.fieldLink "VotingHuts$World" (24 : Nat) "VotingHuts$World" "asks" "I") ∈ lw_all := lw_g (lw_at lw_m4 19 rfl) rfl
theorem q874 : (Jvm.Cond.fieldLink "VotingHuts$World" (47 : Nat) "VotingHuts$World" "hour" "I") ∈ lw_all := lw_g (lw_at lw_m4 22 rfl) rfl
theorem q876 : (Jvm.Cond.fieldLink "VotingHuts$World" (50 : Nat) "VotingHuts$World" "asked" "I") ∈ lw_all := lw_g (lw_at lw_m4 24 rfl) rfl
theorem q878 : (Jvm.Cond.laysFinal "VotingHuts$World" "VotingHuts$World" "levels" "I") ∈ lw_all := lw_g (lw_at lw_m4 26 rfl) rfl
theorem q879 : (Jvm.Cond.soleField "VotingHuts$World" "levels") ∈ lw_all := lw_g (lw_at lw_m4 27 rfl) rfl
theorem q880 : (Jvm.Cond.laysFinal "VotingHuts$World" "VotingHuts$World" "wires" "LVotingHuts$Wires;") ∈ lw_all := lw_g (lw_at lw_m4 28 rfl) rfl
theorem q881 : (Jvm.Cond.soleField "VotingHuts$World" "wires") ∈ lw_all := lw_g (lw_at lw_m4 29 rfl) rfl
theorem q882 : (Jvm.Cond.laysFinal "VotingHuts$World" "VotingHuts$World" "messages" "Ljava/util/List;") ∈ lw_all := lw_g (lw_at lw_m4 30 rfl) rfl
theorem q883 : (Jvm.Cond.soleField "VotingHuts$World" "messages") ∈ lw_all := lw_g (lw_at lw_m4 31 rfl) rfl
theorem q884 : (Jvm.Cond.laysFinal "VotingHuts$World" "VotingHuts$World" "log" "LVotingHuts$Kept;") ∈ lw_all := lw_g (lw_at lw_m4 32 rfl) rfl
theorem q885 : (Jvm.Cond.soleField "VotingHuts$World" "log") ∈ lw_all := lw_g (lw_at lw_m4 33 rfl) rfl
theorem q886 : (Jvm.Cond.lays "VotingHuts$World" "VotingHuts$World" "asks" "I") ∈ lw_all := lw_g (lw_at lw_m4 34 rfl) rfl
theorem q887 : (Jvm.Cond.soleField "VotingHuts$World" "asks") ∈ lw_all := lw_g (lw_at lw_m4 35 rfl) rfl
theorem q888 : (Jvm.Cond.lays "VotingHuts$World" "VotingHuts$World" "hour" "I") ∈ lw_all := lw_g (lw_at lw_m4 36 rfl) rfl
theorem q889 : (Jvm.Cond.soleField "VotingHuts$World" "hour") ∈ lw_all := lw_g (lw_at lw_m4 37 rfl) rfl
theorem q890 : (Jvm.Cond.lays "VotingHuts$World" "VotingHuts$World" "asked" "I") ∈ lw_all := lw_g (lw_at lw_m4 38 rfl) rfl
theorem q891 : (Jvm.Cond.soleField "VotingHuts$World" "asked") ∈ lw_all := lw_g (lw_at lw_m4 39 rfl) rfl
theorem q892 : (Jvm.Cond.superclass "VotingHuts$World" "java/lang/Object") ∈ lw_all := lw_g (lw_at lw_m4 40 rfl) rfl
theorem q997 : (Jvm.Cond.instanceMethod ({ cls := "VotingHuts$World", name := "sends", desc := "([I)I" } : Jvm.MethodName)) ∈ lw_all := lw_g (lw_at lw_m4 145 rfl) rfl
theorem q998 : (Jvm.Cond.selects "VotingHuts$World" ({ cls := "VotingHuts$World", name := "sends", desc := "([I)I" } : Jvm.MethodName) ({ cls := "VotingHuts$World", name := "sends", desc := "([I)I" } : Jvm.MethodName)) ∈ lw_all := lw_g (lw_at lw_m4 146 rfl) rfl
theorem q999 : (Jvm.Cond.code ({ cls := "VotingHuts$World", name := "sends", desc := "([I)I" } : Jvm.MethodName) prog_10_method_5_code (3 : Nat) (Option.some Jvm.ClassFile.FieldType.int)) ∈ lw_all := lw_g (lw_at lw_m4 147 rfl) rfl
theorem q1000 : (Jvm.Cond.classLink "VotingHuts$World" (59 : Nat) "VotingHuts$Message") ∈ lw_all := lw_g (lw_at lw_m4 148 rfl) rfl
theorem q1002 : (Jvm.Cond.methodLink "VotingHuts$World" (88 : Nat) ({ cls := "VotingHuts$Message", name := "<init>", desc := "(I[I)V" } : Jvm.MethodName)) ∈ lw_all := lw_g (lw_at lw_m4 150 rfl) rfl
theorem q1020 : (Jvm.Cond.fieldLinkNest "VotingHuts$World" (78 : Nat) "VotingHuts$Message" "level" "I" "VotingHuts") ∈ lw_tbl := lw_at lw_m4 168 rfl
theorem q1025 : (Jvm.Cond.fieldLinkNest "VotingHuts$World" (102 : Nat) "VotingHuts$Message" "arrived" "I" "VotingHuts") ∈ lw_tbl := lw_at lw_m4 173 rfl
theorem q1046 : (Jvm.Cond.interfaceEntry "VotingHuts$World" (68 : Nat)) ∈ lw_tbl := lw_at lw_m4 194 rfl
theorem q1047 : (Jvm.Cond.methodLink "VotingHuts$World" (68 : Nat) ({ cls := "java/util/List", name := "add", desc := "(Ljava/lang/Object;)Z" } : Jvm.MethodName)) ∈ lw_all := lw_g (lw_at lw_m4 195 rfl) rfl
theorem q1082 : (Jvm.Cond.selects "VotingHuts$World" ({ cls := "java/lang/Object", name := "getClass", desc := "()Ljava/lang/Class;" } : Jvm.MethodName) ({ cls := "java/lang/Object", name := "getClass", desc := "()Ljava/lang/Class;" } : Jvm.MethodName)) ∈ lw_all := lw_g (lw_at lw_m4 230 rfl) rfl
theorem q1102 : (Jvm.Cond.interfaceEntry "VotingHuts$World" (53 : Nat)) ∈ lw_tbl := lw_at lw_m5 10 rfl
theorem q1103 : (Jvm.Cond.methodLink "VotingHuts$World" (53 : Nat) ({ cls := "java/util/List", name := "size", desc := "()I" } : Jvm.MethodName)) ∈ lw_all := lw_g (lw_at lw_m5 11 rfl) rfl
theorem q1104 : (Jvm.Cond.methodLink "VotingHuts$World" (91 : Nat) ({ cls := "VotingHuts$World", name := "logs", desc := "(II)V" } : Jvm.MethodName)) ∈ lw_all := lw_g (lw_at lw_m5 12 rfl) rfl
theorem q1105 : (Jvm.Cond.privateMethod ({ cls := "VotingHuts$World", name := "logs", desc := "(II)V" } : Jvm.MethodName)) ∈ lw_tbl := lw_at lw_m5 13 rfl
theorem q1106 : (Jvm.Cond.instanceMethod ({ cls := "VotingHuts$World", name := "logs", desc := "(II)V" } : Jvm.MethodName)) ∈ lw_all := lw_g (lw_at lw_m5 14 rfl) rfl
theorem q1107 : (Jvm.Cond.code ({ cls := "VotingHuts$World", name := "logs", desc := "(II)V" } : Jvm.MethodName) prog_10_method_4_code (3 : Nat) (Option.none : Option Jvm.ClassFile.FieldType)) ∈ lw_all := lw_g (lw_at lw_m5 15 rfl) rfl
theorem q1108 : (Jvm.Cond.classLink "VotingHuts$World" (76 : Nat) "VotingHuts$Entry") ∈ lw_all := lw_g (lw_at lw_m5 16 rfl) rfl
theorem q1110 : (Jvm.Cond.methodLink "VotingHuts$World" (61 : Nat) ({ cls := "VotingHuts$World", name := "message", desc := "(I)LVotingHuts$Message;" } : Jvm.MethodName)) ∈ lw_all := lw_g (lw_at lw_m5 18 rfl) rfl
theorem q1111 : (Jvm.Cond.instanceMethod ({ cls := "VotingHuts$World", name := "message", desc := "(I)LVotingHuts$Message;" } : Jvm.MethodName)) ∈ lw_all := lw_g (lw_at lw_m5 19 rfl) rfl
theorem q1112 : (Jvm.Cond.selects "VotingHuts$World" ({ cls := "VotingHuts$World", name := "message", desc := "(I)LVotingHuts$Message;" } : Jvm.MethodName) ({ cls := "VotingHuts$World", name := "message", desc := "(I)LVotingHuts$Message;" } : Jvm.MethodName)) ∈ lw_all := lw_g (lw_at lw_m5 20 rfl) rfl
theorem q1113 : (Jvm.Cond.code ({ cls := "VotingHuts$World", name := "message", desc := "(I)LVotingHuts$Message;" } : Jvm.MethodName) prog_10_method_3_code (2 : Nat) (Option.some (Jvm.ClassFile.FieldType.object "VotingHuts$Message"))) ∈ lw_all := lw_g (lw_at lw_m5 21 rfl) rfl
theorem q1114 : (Jvm.Cond.interfaceEntry "VotingHuts$World" (72 : Nat)) ∈ lw_tbl := lw_at lw_m5 22 rfl
theorem q1115 : (Jvm.Cond.methodLink "VotingHuts$World" (72 : Nat) ({ cls := "java/util/List", name := "get", desc := "(I)Ljava/lang/Object;" } : Jvm.MethodName)) ∈ lw_all := lw_g (lw_at lw_m5 23 rfl) rfl
theorem q1131 : (Jvm.Cond.methodLink "VotingHuts$World" (81 : Nat) ({ cls := "VotingHuts$Entry", name := "<init>", desc := "(IIII)V" } : Jvm.MethodName)) ∈ lw_all := lw_g (lw_at lw_m5 39 rfl) rfl
theorem q1151 : (Jvm.Cond.methodLink "VotingHuts$World" (84 : Nat) ({ cls := "VotingHuts$Kept", name := "adds", desc := "(LVotingHuts$Told;)V" } : Jvm.MethodName)) ∈ lw_all := lw_g (lw_at lw_m5 59 rfl) rfl
theorem q1191 : (Jvm.Cond.instanceMethod ({ cls := "VotingHuts$World", name := "drops", desc := "(I)V" } : Jvm.MethodName)) ∈ lw_all := lw_g (lw_at lw_m5 99 rfl) rfl
theorem q1192 : (Jvm.Cond.selects "VotingHuts$World" ({ cls := "VotingHuts$World", name := "drops", desc := "(I)V" } : Jvm.MethodName) ({ cls := "VotingHuts$World", name := "drops", desc := "(I)V" } : Jvm.MethodName)) ∈ lw_all := lw_g (lw_at lw_m5 100 rfl) rfl
theorem q1193 : (Jvm.Cond.code ({ cls := "VotingHuts$World", name := "drops", desc := "(I)V" } : Jvm.MethodName) prog_10_method_9_code (3 : Nat) (Option.none : Option Jvm.ClassFile.FieldType)) ∈ lw_all := lw_g (lw_at lw_m5 101 rfl) rfl
theorem q1194 : (Jvm.Cond.interfaceEntry "VotingHuts$World" (112 : Nat)) ∈ lw_tbl := lw_at lw_m5 102 rfl
theorem q1195 : (Jvm.Cond.methodLink "VotingHuts$World" (112 : Nat) ({ cls := "java/util/List", name := "remove", desc := "(I)Ljava/lang/Object;" } : Jvm.MethodName)) ∈ lw_all := lw_g (lw_at lw_m5 103 rfl) rfl
theorem q1196 : (Jvm.Cond.methodLink "VotingHuts$World" (115 : Nat) ({ cls := "VotingHuts$Kept", name := "drops", desc := "(I)V" } : Jvm.MethodName)) ∈ lw_all := lw_g (lw_at lw_m5 104 rfl) rfl
theorem q1262 : (Jvm.Cond.instanceMethod ({ cls := "VotingHuts$World", name := "hours", desc := "(I)I" } : Jvm.MethodName)) ∈ lw_all := lw_g (lw_at lw_m5 170 rfl) rfl
theorem q1263 : (Jvm.Cond.selects "VotingHuts$World" ({ cls := "VotingHuts$World", name := "hours", desc := "(I)I" } : Jvm.MethodName) ({ cls := "VotingHuts$World", name := "hours", desc := "(I)I" } : Jvm.MethodName)) ∈ lw_all := lw_g (lw_at lw_m5 171 rfl) rfl
theorem q1264 : (Jvm.Cond.code ({ cls := "VotingHuts$World", name := "hours", desc := "(I)I" } : Jvm.MethodName) prog_10_method_7_code (5 : Nat) (Option.some Jvm.ClassFile.FieldType.int)) ∈ lw_all := lw_g (lw_at lw_m5 172 rfl) rfl
theorem q1265 : (Jvm.Cond.methodLink "VotingHuts$World" (109 : Nat) ({ cls := "VotingHuts$World", name := "passes", desc := "(I)I" } : Jvm.MethodName)) ∈ lw_all := lw_g (lw_at lw_m5 173 rfl) rfl
theorem q1266 : (Jvm.Cond.privateMethod ({ cls := "VotingHuts$World", name := "passes", desc := "(I)I" } : Jvm.MethodName)) ∈ lw_tbl := lw_at lw_m5 174 rfl
theorem q1267 : (Jvm.Cond.instanceMethod ({ cls := "VotingHuts$World", name := "passes", desc := "(I)I" } : Jvm.MethodName)) ∈ lw_all := lw_g (lw_at lw_m5 175 rfl) rfl
theorem q1268 : (Jvm.Cond.code ({ cls := "VotingHuts$World", name := "passes", desc := "(I)I" } : Jvm.MethodName) prog_10_method_6_code (6 : Nat) (Option.some Jvm.ClassFile.FieldType.int)) ∈ lw_all := lw_g (lw_at lw_m5 176 rfl) rfl
theorem q1269 : (Jvm.Cond.methodLink "VotingHuts$World" (95 : Nat) ({ cls := "VotingHuts$Message", name := "unsure", desc := "()I" } : Jvm.MethodName)) ∈ lw_all := lw_g (lw_at lw_m5 177 rfl) rfl
theorem q1278 : (Jvm.Cond.methodLink "VotingHuts$World" (98 : Nat) ({ cls := "VotingHuts$Message", name := "passes", desc := "(LVotingHuts$Wires;III)I" } : Jvm.MethodName)) ∈ lw_all := lw_g (lw_at lw_m5 186 rfl) rfl
theorem q1322 : (Jvm.Cond.methodLinkNest "VotingHuts$World" (105 : Nat) ({ cls := "VotingHuts", name := "flag", desc := "(Z)I" } : Jvm.MethodName) "VotingHuts") ∈ lw_tbl := lw_at lw_m5 230 rfl
theorem q1372 : (Jvm.Cond.instanceMethod ({ cls := "VotingHuts$World", name := "arrived", desc := "()I" } : Jvm.MethodName)) ∈ lw_all := lw_g (lw_at lw_m6 40 rfl) rfl
theorem q1373 : (Jvm.Cond.selects "VotingHuts$World" ({ cls := "VotingHuts$World", name := "arrived", desc := "()I" } : Jvm.MethodName) ({ cls := "VotingHuts$World", name := "arrived", desc := "()I" } : Jvm.MethodName)) ∈ lw_all := lw_g (lw_at lw_m6 41 rfl) rfl
theorem q1374 : (Jvm.Cond.code ({ cls := "VotingHuts$World", name := "arrived", desc := "()I" } : Jvm.MethodName) prog_10_method_8_code (3 : Nat) (Option.some Jvm.ClassFile.FieldType.int)) ∈ lw_all := lw_g (lw_at lw_m6 42 rfl) rfl
theorem q1621 : (Jvm.Cond.instanceMethod ({ cls := "VotingHuts$World", name := "gap", desc := "()I" } : Jvm.MethodName)) ∈ lw_all := lw_g (lw_at lw_m7 49 rfl) rfl
theorem q1622 : (Jvm.Cond.selects "VotingHuts$World" ({ cls := "VotingHuts$World", name := "gap", desc := "()I" } : Jvm.MethodName) ({ cls := "VotingHuts$World", name := "gap", desc := "()I" } : Jvm.MethodName)) ∈ lw_all := lw_g (lw_at lw_m7 50 rfl) rfl
theorem q1623 : (Jvm.Cond.code ({ cls := "VotingHuts$World", name := "gap", desc := "()I" } : Jvm.MethodName) prog_10_method_14_code (3 : Nat) (Option.some Jvm.ClassFile.FieldType.int)) ∈ lw_all := lw_g (lw_at lw_m7 51 rfl) rfl
theorem q1624 : (Jvm.Cond.methodLink "VotingHuts$World" (135 : Nat) ({ cls := "VotingHuts$Wires", name := "gap", desc := "()I" } : Jvm.MethodName)) ∈ lw_all := lw_g (lw_at lw_m7 52 rfl) rfl
theorem q1631 : (Jvm.Cond.methodLink "VotingHuts$World" (138 : Nat) ({ cls := "VotingHuts$Message", name := "gap", desc := "()I" } : Jvm.MethodName)) ∈ lw_all := lw_g (lw_at lw_m7 59 rfl) rfl
theorem q1716 : (Jvm.Cond.instanceMethod ({ cls := "VotingHuts$World", name := "then", desc := "(I)LVotingHuts$Message;" } : Jvm.MethodName)) ∈ lw_all := lw_g (lw_at lw_m7 144 rfl) rfl
theorem q1717 : (Jvm.Cond.selects "VotingHuts$World" ({ cls := "VotingHuts$World", name := "then", desc := "(I)LVotingHuts$Message;" } : Jvm.MethodName) ({ cls := "VotingHuts$World", name := "then", desc := "(I)LVotingHuts$Message;" } : Jvm.MethodName)) ∈ lw_all := lw_g (lw_at lw_m7 145 rfl) rfl
theorem q1718 : (Jvm.Cond.code ({ cls := "VotingHuts$World", name := "then", desc := "(I)LVotingHuts$Message;" } : Jvm.MethodName) prog_10_method_11_code (2 : Nat) (Option.some (Jvm.ClassFile.FieldType.object "VotingHuts$Message"))) ∈ lw_all := lw_g (lw_at lw_m7 146 rfl) rfl
theorem q1719 : (Jvm.Cond.methodLink "VotingHuts$World" (118 : Nat) ({ cls := "VotingHuts$World", name := "then", desc := "(LVotingHuts$Message;LVotingHuts$Wires;II)LVotingHuts$Message;" } : Jvm.MethodName)) ∈ lw_all := lw_g (lw_at lw_m7 147 rfl) rfl
theorem q1720 : (Jvm.Cond.instanceMethod ({ cls := "VotingHuts$World", name := "then", desc := "(LVotingHuts$Message;LVotingHuts$Wires;II)LVotingHuts$Message;" } : Jvm.MethodName)) ∈ lw_all := lw_g (lw_at lw_m7 148 rfl) rfl
theorem q1721 : (Jvm.Cond.selects "VotingHuts$World" ({ cls := "VotingHuts$World", name := "then", desc := "(LVotingHuts$Message;LVotingHuts$Wires;II)LVotingHuts$Message;" } : Jvm.MethodName) ({ cls := "VotingHuts$World", name := "then", desc := "(LVotingHuts$Message;LVotingHuts$Wires;II)LVotingHuts$Message;" } : Jvm.MethodName)) ∈ lw_all := lw_g (lw_at lw_m7 149 rfl) rfl
theorem q1722 : (Jvm.Cond.code ({ cls := "VotingHuts$World", name := "then", desc := "(LVotingHuts$Message;LVotingHuts$Wires;II)LVotingHuts$Message;" } : Jvm.MethodName) prog_10_method_10_code (9 : Nat) (Option.some (Jvm.ClassFile.FieldType.object "VotingHuts$Message"))) ∈ lw_all := lw_g (lw_at lw_m7 150 rfl) rfl
theorem q1723 : (Jvm.Cond.methodLink "VotingHuts$World" (65 : Nat) ({ cls := "VotingHuts$Message", name := "<init>", desc := "(LVotingHuts$Message;)V" } : Jvm.MethodName)) ∈ lw_all := lw_g (lw_at lw_m7 151 rfl) rfl
theorem q1726 : (Jvm.Cond.methodLink "VotingHuts$World" (41 : Nat) ({ cls := "VotingHuts$Wires", name := "<init>", desc := "(LVotingHuts$Wires;)V" } : Jvm.MethodName)) ∈ lw_all := lw_g (lw_at lw_m7 154 rfl) rfl
theorem q1755 : (Jvm.Cond.instanceMethod ({ cls := "VotingHuts$World", name := "<init>", desc := "(LVotingHuts$World;)V" } : Jvm.MethodName)) ∈ lw_all := lw_g (lw_at lw_m7 183 rfl) rfl
theorem q1756 : (Jvm.Cond.code ({ cls := "VotingHuts$World", name := "<init>", desc := "(LVotingHuts$World;)V" } : Jvm.MethodName) prog_10_method_2_code (4 : Nat) (Option.none : Option Jvm.ClassFile.FieldType)) ∈ lw_all := lw_g (lw_at lw_m7 184 rfl) rfl
theorem q1757 : (Jvm.Cond.methodLink "VotingHuts$World" (44 : Nat) ({ cls := "VotingHuts$Kept", name := "<init>", desc := "(LVotingHuts$Kept;)V" } : Jvm.MethodName)) ∈ lw_all := lw_g (lw_at lw_m7 185 rfl) rfl
theorem q1793 : (Jvm.Cond.instanceMethod ({ cls := "VotingHuts$World", name := "then", desc := "(ILVotingHuts$Wires;)LVotingHuts$Message;" } : Jvm.MethodName)) ∈ lw_all := lw_g (lw_at lw_m7 221 rfl) rfl
theorem q1794 : (Jvm.Cond.selects "VotingHuts$World" ({ cls := "VotingHuts$World", name := "then", desc := "(ILVotingHuts$Wires;)LVotingHuts$Message;" } : Jvm.MethodName) ({ cls := "VotingHuts$World", name := "then", desc := "(ILVotingHuts$Wires;)LVotingHuts$Message;" } : Jvm.MethodName)) ∈ lw_all := lw_g (lw_at lw_m7 222 rfl) rfl
theorem q1795 : (Jvm.Cond.code ({ cls := "VotingHuts$World", name := "then", desc := "(ILVotingHuts$Wires;)LVotingHuts$Message;" } : Jvm.MethodName) prog_10_method_12_code (3 : Nat) (Option.some (Jvm.ClassFile.FieldType.object "VotingHuts$Message"))) ∈ lw_all := lw_g (lw_at lw_m7 223 rfl) rfl
theorem q1804 : (Jvm.Cond.instanceMethod ({ cls := "VotingHuts$World", name := "isNeedless", desc := "(LVotingHuts$Message;II)Z" } : Jvm.MethodName)) ∈ lw_all := lw_g (lw_at lw_m7 232 rfl) rfl
theorem q1805 : (Jvm.Cond.selects "VotingHuts$World" ({ cls := "VotingHuts$World", name := "isNeedless", desc := "(LVotingHuts$Message;II)Z" } : Jvm.MethodName) ({ cls := "VotingHuts$World", name := "isNeedless", desc := "(LVotingHuts$Message;II)Z" } : Jvm.MethodName)) ∈ lw_all := lw_g (lw_at lw_m7 233 rfl) rfl
theorem q1806 : (Jvm.Cond.code ({ cls := "VotingHuts$World", name := "isNeedless", desc := "(LVotingHuts$Message;II)Z" } : Jvm.MethodName) prog_10_method_13_code (6 : Nat) (Option.some Jvm.ClassFile.FieldType.boolean)) ∈ lw_all := lw_g (lw_at lw_m7 234 rfl) rfl
theorem q1807 : (Jvm.Cond.methodLink "VotingHuts$World" (122 : Nat) ({ cls := "VotingHuts$Wires", name := "without", desc := "(I)LVotingHuts$Wires;" } : Jvm.MethodName)) ∈ lw_all := lw_g (lw_at lw_m7 235 rfl) rfl
theorem q1811 : (Jvm.Cond.methodLink "VotingHuts$World" (126 : Nat) ({ cls := "VotingHuts$World", name := "then", desc := "(ILVotingHuts$Wires;)LVotingHuts$Message;" } : Jvm.MethodName)) ∈ lw_all := lw_g (lw_at lw_m7 239 rfl) rfl
theorem q1812 : (Jvm.Cond.methodLink "VotingHuts$World" (129 : Nat) ({ cls := "VotingHuts$Message", name := "length", desc := "()I" } : Jvm.MethodName)) ∈ lw_all := lw_g (lw_at lw_m8 0 rfl) rfl
theorem q1813 : (Jvm.Cond.methodLink "VotingHuts$World" (132 : Nat) ({ cls := "VotingHuts$Message", name := "believed", desc := "(I)I" } : Jvm.MethodName)) ∈ lw_all := lw_g (lw_at lw_m8 1 rfl) rfl
theorem q2920 : (Jvm.Cond.castable "VotingHuts$World" "java/lang/Object") ∈ lw_tbl := lw_at lw_m12 148 rfl
theorem in_X5 : ∀ w ∈ wsX50, w ∈ lw_all := lw_in wsX50 [878, 880, 882, 884, 886, 888, 890] (by decide +kernel) (by decide +kernel)
/-! VotingHuts$Wires -/
set_option maxRecDepth 100000
def RX6 : String := "VotingHuts$Wires"
def TX6 : u_T := fun k => match k with
  | 0 => ("VotingHuts$Wires", "storm", "[I", true)
  | 1 => ("VotingHuts$Wires", "phase", "[I", true)
  | 2 => ("VotingHuts$Wires", "sent", "[I", true)
  | 3 => ("VotingHuts$Wires", "garbled", "[I", true)
  | 4 => ("VotingHuts$Wires", "isCut", "[Z", true)
  | 5 => ("VotingHuts$Wires", "copies", "I", false)
  | 6 => ("VotingHuts$Wires", "wrong", "I", false)
  | _ => ("VotingHuts$Wires", "missed", "I", false)
def tyX6 : Nat → FieldType := fun k => match k with
  | 0 => .array .int
  | 1 => .array .int
  | 2 => .array .int
  | 3 => .array .int
  | 4 => .array .boolean
  | 5 => .int
  | 6 => .int
  | _ => .int
abbrev wsX60 : List Cond := u_ws RX6 TX6 8
theorem nmX6 : ∀ a, a < 8 → ∀ b, b < 8 → a ≠ b → (TX6 a).2.1 ≠ (TX6 b).2.1 := by decide +kernel
theorem tyX6_ok : ∀ k, k < 8 → parseFieldDescriptor (TX6 k).2.2.1 = some (tyX6 k) := by decide +kernel
abbrev cX6_init : ByteArray := prog_9_method_1_code
def yX6_init : MethodName := ⟨RX6, "<init>", "(I)V"⟩
def dkwX6_init_2 : List UInt8 := [177]
abbrev dktX6_init_2 : List UInt8 := dkwX6_init_2 ++ []
def dkwX6_init_1 : List UInt8 := [181, 0, 15, 42, 28, 188, 10, 181, 0, 18, 42, 28, 188, 10, 181, 0, 21, 42, 28, 188, 4, 181, 0, 24]
abbrev dktX6_init_1 : List UInt8 := dkwX6_init_1 ++ dktX6_init_2
def dkwX6_init_0 : List UInt8 := [42, 183, 0, 3, 16, 9, 27, 4, 100, 104, 61, 42, 28, 188, 10, 181, 0, 9, 42, 28, 188, 10]
abbrev dktX6_init_0 : List UInt8 := dkwX6_init_0 ++ dktX6_init_1
theorem dksX6_init_0 : cX6_init.data.toList.drop 0 = dktX6_init_0 := by decide +kernel
theorem dksX6_init_1 : cX6_init.data.toList.drop 22 = dktX6_init_1 := dk_seg dksX6_init_0 22 rfl rfl
theorem dksX6_init_2 : cX6_init.data.toList.drop 46 = dktX6_init_2 := dk_seg dksX6_init_1 24 rfl rfl
theorem dX6_init_0 : decode cX6_init 0 = .ok (.aload_n 0, 1) := dk_42 (dk_at dksX6_init_0 0 rfl rfl)
theorem dX6_init_1 : decode cX6_init 1 = .ok (.invokespecial 3, 3) := dk_183 0 3 (dk_at dksX6_init_0 1 rfl rfl)
theorem dX6_init_4 : decode cX6_init 4 = .ok (.bipush 9, 2) := dk_16 9 (dk_at dksX6_init_0 4 rfl rfl)
theorem dX6_init_6 : decode cX6_init 6 = .ok (.iload_n 1, 1) := dk_27 (dk_at dksX6_init_0 6 rfl rfl)
theorem dX6_init_7 : decode cX6_init 7 = .ok (.iconst 1, 1) := dk_4 (dk_at dksX6_init_0 7 rfl rfl)
theorem dX6_init_8 : decode cX6_init 8 = .ok (.isub, 1) := dk_100 (dk_at dksX6_init_0 8 rfl rfl)
theorem dX6_init_9 : decode cX6_init 9 = .ok (.imul, 1) := dk_104 (dk_at dksX6_init_0 9 rfl rfl)
theorem dX6_init_10 : decode cX6_init 10 = .ok (.istore_n 2, 1) := dk_61 (dk_at dksX6_init_0 10 rfl rfl)
theorem dX6_init_11 : decode cX6_init 11 = .ok (.aload_n 0, 1) := dk_42 (dk_at dksX6_init_0 11 rfl rfl)
theorem dX6_init_12 : decode cX6_init 12 = .ok (.iload_n 2, 1) := dk_28 (dk_at dksX6_init_0 12 rfl rfl)
theorem dX6_init_13 : decode cX6_init 13 = .ok (.newarray .int, 2) := dk_188_10 (dk_at dksX6_init_0 13 rfl rfl)
theorem dX6_init_15 : decode cX6_init 15 = .ok (.putfield 9, 3) := dk_181 0 9 (dk_at dksX6_init_0 15 rfl rfl)
theorem dX6_init_18 : decode cX6_init 18 = .ok (.aload_n 0, 1) := dk_42 (dk_at dksX6_init_0 18 rfl rfl)
theorem dX6_init_19 : decode cX6_init 19 = .ok (.iload_n 2, 1) := dk_28 (dk_at dksX6_init_0 19 rfl rfl)
theorem dX6_init_20 : decode cX6_init 20 = .ok (.newarray .int, 2) := dk_188_10 (dk_at dksX6_init_0 20 rfl rfl)
theorem dX6_init_22 : decode cX6_init 22 = .ok (.putfield 15, 3) := dk_181 0 15 (dk_at dksX6_init_1 0 rfl rfl)
theorem dX6_init_25 : decode cX6_init 25 = .ok (.aload_n 0, 1) := dk_42 (dk_at dksX6_init_1 3 rfl rfl)
theorem dX6_init_26 : decode cX6_init 26 = .ok (.iload_n 2, 1) := dk_28 (dk_at dksX6_init_1 4 rfl rfl)
theorem dX6_init_27 : decode cX6_init 27 = .ok (.newarray .int, 2) := dk_188_10 (dk_at dksX6_init_1 5 rfl rfl)
theorem dX6_init_29 : decode cX6_init 29 = .ok (.putfield 18, 3) := dk_181 0 18 (dk_at dksX6_init_1 7 rfl rfl)
theorem dX6_init_32 : decode cX6_init 32 = .ok (.aload_n 0, 1) := dk_42 (dk_at dksX6_init_1 10 rfl rfl)
theorem dX6_init_33 : decode cX6_init 33 = .ok (.iload_n 2, 1) := dk_28 (dk_at dksX6_init_1 11 rfl rfl)
theorem dX6_init_34 : decode cX6_init 34 = .ok (.newarray .int, 2) := dk_188_10 (dk_at dksX6_init_1 12 rfl rfl)
theorem dX6_init_36 : decode cX6_init 36 = .ok (.putfield 21, 3) := dk_181 0 21 (dk_at dksX6_init_1 14 rfl rfl)
theorem dX6_init_39 : decode cX6_init 39 = .ok (.aload_n 0, 1) := dk_42 (dk_at dksX6_init_1 17 rfl rfl)
theorem dX6_init_40 : decode cX6_init 40 = .ok (.iload_n 2, 1) := dk_28 (dk_at dksX6_init_1 18 rfl rfl)
theorem dX6_init_41 : decode cX6_init 41 = .ok (.newarray .boolean, 2) := dk_188_4 (dk_at dksX6_init_1 19 rfl rfl)
theorem dX6_init_43 : decode cX6_init 43 = .ok (.putfield 24, 3) := dk_181 0 24 (dk_at dksX6_init_1 21 rfl rfl)
theorem dX6_init_46 : decode cX6_init 46 = .ok (.return_, 1) := dk_177 (dk_at dksX6_init_2 0 rfl rfl)
abbrev cX6_calms : ByteArray := prog_9_method_13_code
def yX6_calms : MethodName := ⟨RX6, "calms", "()I"⟩
def dkwX6_calms_1 : List UInt8 := [132, 2, 1, 167, 255, 238, 27, 172]
abbrev dktX6_calms_1 : List UInt8 := dkwX6_calms_1 ++ []
def dkwX6_calms_0 : List UInt8 := [42, 3, 182, 0, 76, 60, 3, 61, 28, 42, 182, 0, 28, 162, 0, 16, 42, 180, 0, 9, 28, 3, 79]
abbrev dktX6_calms_0 : List UInt8 := dkwX6_calms_0 ++ dktX6_calms_1
theorem dksX6_calms_0 : cX6_calms.data.toList.drop 0 = dktX6_calms_0 := by decide +kernel
theorem dksX6_calms_1 : cX6_calms.data.toList.drop 23 = dktX6_calms_1 := dk_seg dksX6_calms_0 23 rfl rfl
theorem dX6_calms_0 : decode cX6_calms 0 = .ok (.aload_n 0, 1) := dk_42 (dk_at dksX6_calms_0 0 rfl rfl)
theorem dX6_calms_1 : decode cX6_calms 1 = .ok (.iconst 0, 1) := dk_3 (dk_at dksX6_calms_0 1 rfl rfl)
theorem dX6_calms_2 : decode cX6_calms 2 = .ok (.invokevirtual 76, 3) := dk_182 0 76 (dk_at dksX6_calms_0 2 rfl rfl)
theorem dX6_calms_5 : decode cX6_calms 5 = .ok (.istore_n 1, 1) := dk_60 (dk_at dksX6_calms_0 5 rfl rfl)
theorem dX6_calms_6 : decode cX6_calms 6 = .ok (.iconst 0, 1) := dk_3 (dk_at dksX6_calms_0 6 rfl rfl)
theorem dX6_calms_7 : decode cX6_calms 7 = .ok (.istore_n 2, 1) := dk_61 (dk_at dksX6_calms_0 7 rfl rfl)
theorem dX6_calms_8 : decode cX6_calms 8 = .ok (.iload_n 2, 1) := dk_28 (dk_at dksX6_calms_0 8 rfl rfl)
theorem dX6_calms_9 : decode cX6_calms 9 = .ok (.aload_n 0, 1) := dk_42 (dk_at dksX6_calms_0 9 rfl rfl)
theorem dX6_calms_10 : decode cX6_calms 10 = .ok (.invokevirtual 28, 3) := dk_182 0 28 (dk_at dksX6_calms_0 10 rfl rfl)
theorem dX6_calms_13 : decode cX6_calms 13 = .ok (.if_icmp .ge 16, 3) := dk_162 0 16 (dk_at dksX6_calms_0 13 rfl rfl)
theorem dX6_calms_16 : decode cX6_calms 16 = .ok (.aload_n 0, 1) := dk_42 (dk_at dksX6_calms_0 16 rfl rfl)
theorem dX6_calms_17 : decode cX6_calms 17 = .ok (.getfield 9, 3) := dk_180 0 9 (dk_at dksX6_calms_0 17 rfl rfl)
theorem dX6_calms_20 : decode cX6_calms 20 = .ok (.iload_n 2, 1) := dk_28 (dk_at dksX6_calms_0 20 rfl rfl)
theorem dX6_calms_21 : decode cX6_calms 21 = .ok (.iconst 0, 1) := dk_3 (dk_at dksX6_calms_0 21 rfl rfl)
theorem dX6_calms_22 : decode cX6_calms 22 = .ok (.iastore, 1) := dk_79 (dk_at dksX6_calms_0 22 rfl rfl)
theorem dX6_calms_23 : decode cX6_calms 23 = .ok (.iinc 2 1, 3) := dk_132 2 1 (dk_at dksX6_calms_1 0 rfl rfl)
theorem dX6_calms_26 : decode cX6_calms 26 = .ok (.goto (-18), 3) := dk_167 255 238 (dk_at dksX6_calms_1 3 rfl rfl)
theorem dX6_calms_29 : decode cX6_calms 29 = .ok (.iload_n 1, 1) := dk_27 (dk_at dksX6_calms_1 6 rfl rfl)
theorem dX6_calms_30 : decode cX6_calms 30 = .ok (.ireturn, 1) := dk_172 (dk_at dksX6_calms_1 7 rfl rfl)
abbrev cX6_many : ByteArray := prog_9_method_16_code
def yX6_many : MethodName := ⟨RX6, "many", "(Z)I"⟩
def dkwX6_many_2 : List UInt8 := [132, 3, 1, 167, 255, 212, 28, 172]
abbrev dktX6_many_2 : List UInt8 := dkwX6_many_2 ++ []
def dkwX6_many_1 : List UInt8 := [167, 0, 17, 42, 180, 0, 9, 29, 46, 158, 0, 7, 4, 167, 0, 4, 3, 184, 0, 72, 96, 61]
abbrev dktX6_many_1 : List UInt8 := dkwX6_many_1 ++ dktX6_many_2
def dkwX6_many_0 : List UInt8 := [3, 61, 3, 62, 29, 42, 182, 0, 28, 162, 0, 42, 28, 27, 153, 0, 12, 42, 180, 0, 24, 29, 51]
abbrev dktX6_many_0 : List UInt8 := dkwX6_many_0 ++ dktX6_many_1
theorem dksX6_many_0 : cX6_many.data.toList.drop 0 = dktX6_many_0 := by decide +kernel
theorem dksX6_many_1 : cX6_many.data.toList.drop 23 = dktX6_many_1 := dk_seg dksX6_many_0 23 rfl rfl
theorem dksX6_many_2 : cX6_many.data.toList.drop 45 = dktX6_many_2 := dk_seg dksX6_many_1 22 rfl rfl
theorem dX6_many_0 : decode cX6_many 0 = .ok (.iconst 0, 1) := dk_3 (dk_at dksX6_many_0 0 rfl rfl)
theorem dX6_many_1 : decode cX6_many 1 = .ok (.istore_n 2, 1) := dk_61 (dk_at dksX6_many_0 1 rfl rfl)
theorem dX6_many_2 : decode cX6_many 2 = .ok (.iconst 0, 1) := dk_3 (dk_at dksX6_many_0 2 rfl rfl)
theorem dX6_many_3 : decode cX6_many 3 = .ok (.istore_n 3, 1) := dk_62 (dk_at dksX6_many_0 3 rfl rfl)
theorem dX6_many_4 : decode cX6_many 4 = .ok (.iload_n 3, 1) := dk_29 (dk_at dksX6_many_0 4 rfl rfl)
theorem dX6_many_5 : decode cX6_many 5 = .ok (.aload_n 0, 1) := dk_42 (dk_at dksX6_many_0 5 rfl rfl)
theorem dX6_many_6 : decode cX6_many 6 = .ok (.invokevirtual 28, 3) := dk_182 0 28 (dk_at dksX6_many_0 6 rfl rfl)
theorem dX6_many_9 : decode cX6_many 9 = .ok (.if_icmp .ge 42, 3) := dk_162 0 42 (dk_at dksX6_many_0 9 rfl rfl)
theorem dX6_many_12 : decode cX6_many 12 = .ok (.iload_n 2, 1) := dk_28 (dk_at dksX6_many_0 12 rfl rfl)
theorem dX6_many_13 : decode cX6_many 13 = .ok (.iload_n 1, 1) := dk_27 (dk_at dksX6_many_0 13 rfl rfl)
theorem dX6_many_14 : decode cX6_many 14 = .ok (.ifCond .eq 12, 3) := dk_153 0 12 (dk_at dksX6_many_0 14 rfl rfl)
theorem dX6_many_17 : decode cX6_many 17 = .ok (.aload_n 0, 1) := dk_42 (dk_at dksX6_many_0 17 rfl rfl)
theorem dX6_many_18 : decode cX6_many 18 = .ok (.getfield 24, 3) := dk_180 0 24 (dk_at dksX6_many_0 18 rfl rfl)
theorem dX6_many_21 : decode cX6_many 21 = .ok (.iload_n 3, 1) := dk_29 (dk_at dksX6_many_0 21 rfl rfl)
theorem dX6_many_22 : decode cX6_many 22 = .ok (.baload, 1) := dk_51 (dk_at dksX6_many_0 22 rfl rfl)
theorem dX6_many_23 : decode cX6_many 23 = .ok (.goto 17, 3) := dk_167 0 17 (dk_at dksX6_many_1 0 rfl rfl)
theorem dX6_many_26 : decode cX6_many 26 = .ok (.aload_n 0, 1) := dk_42 (dk_at dksX6_many_1 3 rfl rfl)
theorem dX6_many_27 : decode cX6_many 27 = .ok (.getfield 9, 3) := dk_180 0 9 (dk_at dksX6_many_1 4 rfl rfl)
theorem dX6_many_30 : decode cX6_many 30 = .ok (.iload_n 3, 1) := dk_29 (dk_at dksX6_many_1 7 rfl rfl)
theorem dX6_many_31 : decode cX6_many 31 = .ok (.iaload, 1) := dk_46 (dk_at dksX6_many_1 8 rfl rfl)
theorem dX6_many_32 : decode cX6_many 32 = .ok (.ifCond .le 7, 3) := dk_158 0 7 (dk_at dksX6_many_1 9 rfl rfl)
theorem dX6_many_35 : decode cX6_many 35 = .ok (.iconst 1, 1) := dk_4 (dk_at dksX6_many_1 12 rfl rfl)
theorem dX6_many_36 : decode cX6_many 36 = .ok (.goto 4, 3) := dk_167 0 4 (dk_at dksX6_many_1 13 rfl rfl)
theorem dX6_many_39 : decode cX6_many 39 = .ok (.iconst 0, 1) := dk_3 (dk_at dksX6_many_1 16 rfl rfl)
theorem dX6_many_40 : decode cX6_many 40 = .ok (.invokestatic 72, 3) := dk_184 0 72 (dk_at dksX6_many_1 17 rfl rfl)
theorem dX6_many_43 : decode cX6_many 43 = .ok (.iadd, 1) := dk_96 (dk_at dksX6_many_1 20 rfl rfl)
theorem dX6_many_44 : decode cX6_many 44 = .ok (.istore_n 2, 1) := dk_61 (dk_at dksX6_many_1 21 rfl rfl)
theorem dX6_many_45 : decode cX6_many 45 = .ok (.iinc 3 1, 3) := dk_132 3 1 (dk_at dksX6_many_2 0 rfl rfl)
theorem dX6_many_48 : decode cX6_many 48 = .ok (.goto (-44), 3) := dk_167 255 212 (dk_at dksX6_many_2 3 rfl rfl)
theorem dX6_many_51 : decode cX6_many 51 = .ok (.iload_n 2, 1) := dk_28 (dk_at dksX6_many_2 6 rfl rfl)
theorem dX6_many_52 : decode cX6_many 52 = .ok (.ireturn, 1) := dk_172 (dk_at dksX6_many_2 7 rfl rfl)
abbrev cX6_size : ByteArray := prog_9_method_3_code
def yX6_size : MethodName := ⟨RX6, "size", "()I"⟩
def dkwX6_size_0 : List UInt8 := [42, 180, 0, 9, 190, 172]
abbrev dktX6_size_0 : List UInt8 := dkwX6_size_0 ++ []
theorem dksX6_size_0 : cX6_size.data.toList.drop 0 = dktX6_size_0 := by decide +kernel
theorem dX6_size_0 : decode cX6_size 0 = .ok (.aload_n 0, 1) := dk_42 (dk_at dksX6_size_0 0 rfl rfl)
theorem dX6_size_1 : decode cX6_size 1 = .ok (.getfield 9, 3) := dk_180 0 9 (dk_at dksX6_size_0 1 rfl rfl)
theorem dX6_size_4 : decode cX6_size 4 = .ok (.arraylength, 1) := dk_190 (dk_at dksX6_size_0 4 rfl rfl)
theorem dX6_size_5 : decode cX6_size 5 = .ok (.ireturn, 1) := dk_172 (dk_at dksX6_size_0 5 rfl rfl)
abbrev cX6_carries : ByteArray := prog_9_method_6_code
def yX6_carries : MethodName := ⟨RX6, "carries", "(IIII)I"⟩
def dkwX6_carries_3 : List UInt8 := [180, 0, 21, 27, 92, 46, 4, 96, 79, 21, 5, 172]
abbrev dktX6_carries_3 : List UInt8 := dkwX6_carries_3 ++ []
def dkwX6_carries_2 : List UInt8 := [181, 0, 48, 167, 0, 30, 21, 5, 21, 4, 159, 0, 23, 42, 89, 180, 0, 45, 4, 96, 181, 0, 45, 42]
abbrev dktX6_carries_2 : List UInt8 := dkwX6_carries_2 ++ dktX6_carries_3
def dkwX6_carries_1 : List UInt8 := [180, 0, 18, 27, 92, 46, 4, 96, 79, 21, 5, 2, 160, 0, 16, 42, 89, 180, 0, 48, 4, 96]
abbrev dktX6_carries_1 : List UInt8 := dkwX6_carries_1 ++ dktX6_carries_2
def dkwX6_carries_0 : List UInt8 := [42, 27, 28, 29, 21, 4, 182, 0, 55, 54, 5, 42, 89, 180, 0, 41, 4, 96, 181, 0, 41, 42]
abbrev dktX6_carries_0 : List UInt8 := dkwX6_carries_0 ++ dktX6_carries_1
theorem dksX6_carries_0 : cX6_carries.data.toList.drop 0 = dktX6_carries_0 := by decide +kernel
theorem dksX6_carries_1 : cX6_carries.data.toList.drop 22 = dktX6_carries_1 := dk_seg dksX6_carries_0 22 rfl rfl
theorem dksX6_carries_2 : cX6_carries.data.toList.drop 44 = dktX6_carries_2 := dk_seg dksX6_carries_1 22 rfl rfl
theorem dksX6_carries_3 : cX6_carries.data.toList.drop 68 = dktX6_carries_3 := dk_seg dksX6_carries_2 24 rfl rfl
theorem dX6_carries_0 : decode cX6_carries 0 = .ok (.aload_n 0, 1) := dk_42 (dk_at dksX6_carries_0 0 rfl rfl)
theorem dX6_carries_1 : decode cX6_carries 1 = .ok (.iload_n 1, 1) := dk_27 (dk_at dksX6_carries_0 1 rfl rfl)
theorem dX6_carries_2 : decode cX6_carries 2 = .ok (.iload_n 2, 1) := dk_28 (dk_at dksX6_carries_0 2 rfl rfl)
theorem dX6_carries_3 : decode cX6_carries 3 = .ok (.iload_n 3, 1) := dk_29 (dk_at dksX6_carries_0 3 rfl rfl)
theorem dX6_carries_4 : decode cX6_carries 4 = .ok (.iload 4, 2) := dk_21 4 (dk_at dksX6_carries_0 4 rfl rfl)
theorem dX6_carries_6 : decode cX6_carries 6 = .ok (.invokevirtual 55, 3) := dk_182 0 55 (dk_at dksX6_carries_0 6 rfl rfl)
theorem dX6_carries_9 : decode cX6_carries 9 = .ok (.istore 5, 2) := dk_54 5 (dk_at dksX6_carries_0 9 rfl rfl)
theorem dX6_carries_11 : decode cX6_carries 11 = .ok (.aload_n 0, 1) := dk_42 (dk_at dksX6_carries_0 11 rfl rfl)
theorem dX6_carries_12 : decode cX6_carries 12 = .ok (.dup, 1) := dk_89 (dk_at dksX6_carries_0 12 rfl rfl)
theorem dX6_carries_13 : decode cX6_carries 13 = .ok (.getfield 41, 3) := dk_180 0 41 (dk_at dksX6_carries_0 13 rfl rfl)
theorem dX6_carries_16 : decode cX6_carries 16 = .ok (.iconst 1, 1) := dk_4 (dk_at dksX6_carries_0 16 rfl rfl)
theorem dX6_carries_17 : decode cX6_carries 17 = .ok (.iadd, 1) := dk_96 (dk_at dksX6_carries_0 17 rfl rfl)
theorem dX6_carries_18 : decode cX6_carries 18 = .ok (.putfield 41, 3) := dk_181 0 41 (dk_at dksX6_carries_0 18 rfl rfl)
theorem dX6_carries_21 : decode cX6_carries 21 = .ok (.aload_n 0, 1) := dk_42 (dk_at dksX6_carries_0 21 rfl rfl)
theorem dX6_carries_22 : decode cX6_carries 22 = .ok (.getfield 18, 3) := dk_180 0 18 (dk_at dksX6_carries_1 0 rfl rfl)
theorem dX6_carries_25 : decode cX6_carries 25 = .ok (.iload_n 1, 1) := dk_27 (dk_at dksX6_carries_1 3 rfl rfl)
theorem dX6_carries_26 : decode cX6_carries 26 = .ok (.dup2, 1) := dk_92 (dk_at dksX6_carries_1 4 rfl rfl)
theorem dX6_carries_27 : decode cX6_carries 27 = .ok (.iaload, 1) := dk_46 (dk_at dksX6_carries_1 5 rfl rfl)
theorem dX6_carries_28 : decode cX6_carries 28 = .ok (.iconst 1, 1) := dk_4 (dk_at dksX6_carries_1 6 rfl rfl)
theorem dX6_carries_29 : decode cX6_carries 29 = .ok (.iadd, 1) := dk_96 (dk_at dksX6_carries_1 7 rfl rfl)
theorem dX6_carries_30 : decode cX6_carries 30 = .ok (.iastore, 1) := dk_79 (dk_at dksX6_carries_1 8 rfl rfl)
theorem dX6_carries_31 : decode cX6_carries 31 = .ok (.iload 5, 2) := dk_21 5 (dk_at dksX6_carries_1 9 rfl rfl)
theorem dX6_carries_33 : decode cX6_carries 33 = .ok (.iconst (-1), 1) := dk_2 (dk_at dksX6_carries_1 11 rfl rfl)
theorem dX6_carries_34 : decode cX6_carries 34 = .ok (.if_icmp .ne 16, 3) := dk_160 0 16 (dk_at dksX6_carries_1 12 rfl rfl)
theorem dX6_carries_37 : decode cX6_carries 37 = .ok (.aload_n 0, 1) := dk_42 (dk_at dksX6_carries_1 15 rfl rfl)
theorem dX6_carries_38 : decode cX6_carries 38 = .ok (.dup, 1) := dk_89 (dk_at dksX6_carries_1 16 rfl rfl)
theorem dX6_carries_39 : decode cX6_carries 39 = .ok (.getfield 48, 3) := dk_180 0 48 (dk_at dksX6_carries_1 17 rfl rfl)
theorem dX6_carries_42 : decode cX6_carries 42 = .ok (.iconst 1, 1) := dk_4 (dk_at dksX6_carries_1 20 rfl rfl)
theorem dX6_carries_43 : decode cX6_carries 43 = .ok (.iadd, 1) := dk_96 (dk_at dksX6_carries_1 21 rfl rfl)
theorem dX6_carries_44 : decode cX6_carries 44 = .ok (.putfield 48, 3) := dk_181 0 48 (dk_at dksX6_carries_2 0 rfl rfl)
theorem dX6_carries_47 : decode cX6_carries 47 = .ok (.goto 30, 3) := dk_167 0 30 (dk_at dksX6_carries_2 3 rfl rfl)
theorem dX6_carries_50 : decode cX6_carries 50 = .ok (.iload 5, 2) := dk_21 5 (dk_at dksX6_carries_2 6 rfl rfl)
theorem dX6_carries_52 : decode cX6_carries 52 = .ok (.iload 4, 2) := dk_21 4 (dk_at dksX6_carries_2 8 rfl rfl)
theorem dX6_carries_54 : decode cX6_carries 54 = .ok (.if_icmp .eq 23, 3) := dk_159 0 23 (dk_at dksX6_carries_2 10 rfl rfl)
theorem dX6_carries_57 : decode cX6_carries 57 = .ok (.aload_n 0, 1) := dk_42 (dk_at dksX6_carries_2 13 rfl rfl)
theorem dX6_carries_58 : decode cX6_carries 58 = .ok (.dup, 1) := dk_89 (dk_at dksX6_carries_2 14 rfl rfl)
theorem dX6_carries_59 : decode cX6_carries 59 = .ok (.getfield 45, 3) := dk_180 0 45 (dk_at dksX6_carries_2 15 rfl rfl)
theorem dX6_carries_62 : decode cX6_carries 62 = .ok (.iconst 1, 1) := dk_4 (dk_at dksX6_carries_2 18 rfl rfl)
theorem dX6_carries_63 : decode cX6_carries 63 = .ok (.iadd, 1) := dk_96 (dk_at dksX6_carries_2 19 rfl rfl)
theorem dX6_carries_64 : decode cX6_carries 64 = .ok (.putfield 45, 3) := dk_181 0 45 (dk_at dksX6_carries_2 20 rfl rfl)
theorem dX6_carries_67 : decode cX6_carries 67 = .ok (.aload_n 0, 1) := dk_42 (dk_at dksX6_carries_2 23 rfl rfl)
theorem dX6_carries_68 : decode cX6_carries 68 = .ok (.getfield 21, 3) := dk_180 0 21 (dk_at dksX6_carries_3 0 rfl rfl)
theorem dX6_carries_71 : decode cX6_carries 71 = .ok (.iload_n 1, 1) := dk_27 (dk_at dksX6_carries_3 3 rfl rfl)
theorem dX6_carries_72 : decode cX6_carries 72 = .ok (.dup2, 1) := dk_92 (dk_at dksX6_carries_3 4 rfl rfl)
theorem dX6_carries_73 : decode cX6_carries 73 = .ok (.iaload, 1) := dk_46 (dk_at dksX6_carries_3 5 rfl rfl)
theorem dX6_carries_74 : decode cX6_carries 74 = .ok (.iconst 1, 1) := dk_4 (dk_at dksX6_carries_3 6 rfl rfl)
theorem dX6_carries_75 : decode cX6_carries 75 = .ok (.iadd, 1) := dk_96 (dk_at dksX6_carries_3 7 rfl rfl)
theorem dX6_carries_76 : decode cX6_carries 76 = .ok (.iastore, 1) := dk_79 (dk_at dksX6_carries_3 8 rfl rfl)
theorem dX6_carries_77 : decode cX6_carries 77 = .ok (.iload 5, 2) := dk_21 5 (dk_at dksX6_carries_3 9 rfl rfl)
theorem dX6_carries_79 : decode cX6_carries 79 = .ok (.ireturn, 1) := dk_172 (dk_at dksX6_carries_3 11 rfl rfl)
abbrev cX6_comes : ByteArray := prog_9_method_5_code
def yX6_comes : MethodName := ⟨RX6, "comes", "(IIII)I"⟩
def dkwX6_comes_1 : List UInt8 := [96, 28, 29, 96, 16, 9, 112, 96, 16, 10, 112, 167, 0, 5, 21, 4, 172]
abbrev dktX6_comes_1 : List UInt8 := dkwX6_comes_1 ++ []
def dkwX6_comes_0 : List UInt8 := [42, 180, 0, 24, 27, 51, 153, 0, 5, 2, 172, 42, 27, 28, 29, 182, 0, 51, 153, 0, 20, 21, 4, 4]
abbrev dktX6_comes_0 : List UInt8 := dkwX6_comes_0 ++ dktX6_comes_1
theorem dksX6_comes_0 : cX6_comes.data.toList.drop 0 = dktX6_comes_0 := by decide +kernel
theorem dksX6_comes_1 : cX6_comes.data.toList.drop 24 = dktX6_comes_1 := dk_seg dksX6_comes_0 24 rfl rfl
theorem dX6_comes_0 : decode cX6_comes 0 = .ok (.aload_n 0, 1) := dk_42 (dk_at dksX6_comes_0 0 rfl rfl)
theorem dX6_comes_1 : decode cX6_comes 1 = .ok (.getfield 24, 3) := dk_180 0 24 (dk_at dksX6_comes_0 1 rfl rfl)
theorem dX6_comes_4 : decode cX6_comes 4 = .ok (.iload_n 1, 1) := dk_27 (dk_at dksX6_comes_0 4 rfl rfl)
theorem dX6_comes_5 : decode cX6_comes 5 = .ok (.baload, 1) := dk_51 (dk_at dksX6_comes_0 5 rfl rfl)
theorem dX6_comes_6 : decode cX6_comes 6 = .ok (.ifCond .eq 5, 3) := dk_153 0 5 (dk_at dksX6_comes_0 6 rfl rfl)
theorem dX6_comes_9 : decode cX6_comes 9 = .ok (.iconst (-1), 1) := dk_2 (dk_at dksX6_comes_0 9 rfl rfl)
theorem dX6_comes_10 : decode cX6_comes 10 = .ok (.ireturn, 1) := dk_172 (dk_at dksX6_comes_0 10 rfl rfl)
theorem dX6_comes_11 : decode cX6_comes 11 = .ok (.aload_n 0, 1) := dk_42 (dk_at dksX6_comes_0 11 rfl rfl)
theorem dX6_comes_12 : decode cX6_comes 12 = .ok (.iload_n 1, 1) := dk_27 (dk_at dksX6_comes_0 12 rfl rfl)
theorem dX6_comes_13 : decode cX6_comes 13 = .ok (.iload_n 2, 1) := dk_28 (dk_at dksX6_comes_0 13 rfl rfl)
theorem dX6_comes_14 : decode cX6_comes 14 = .ok (.iload_n 3, 1) := dk_29 (dk_at dksX6_comes_0 14 rfl rfl)
theorem dX6_comes_15 : decode cX6_comes 15 = .ok (.invokevirtual 51, 3) := dk_182 0 51 (dk_at dksX6_comes_0 15 rfl rfl)
theorem dX6_comes_18 : decode cX6_comes 18 = .ok (.ifCond .eq 20, 3) := dk_153 0 20 (dk_at dksX6_comes_0 18 rfl rfl)
theorem dX6_comes_21 : decode cX6_comes 21 = .ok (.iload 4, 2) := dk_21 4 (dk_at dksX6_comes_0 21 rfl rfl)
theorem dX6_comes_23 : decode cX6_comes 23 = .ok (.iconst 1, 1) := dk_4 (dk_at dksX6_comes_0 23 rfl rfl)
theorem dX6_comes_24 : decode cX6_comes 24 = .ok (.iadd, 1) := dk_96 (dk_at dksX6_comes_1 0 rfl rfl)
theorem dX6_comes_25 : decode cX6_comes 25 = .ok (.iload_n 2, 1) := dk_28 (dk_at dksX6_comes_1 1 rfl rfl)
theorem dX6_comes_26 : decode cX6_comes 26 = .ok (.iload_n 3, 1) := dk_29 (dk_at dksX6_comes_1 2 rfl rfl)
theorem dX6_comes_27 : decode cX6_comes 27 = .ok (.iadd, 1) := dk_96 (dk_at dksX6_comes_1 3 rfl rfl)
theorem dX6_comes_28 : decode cX6_comes 28 = .ok (.bipush 9, 2) := dk_16 9 (dk_at dksX6_comes_1 4 rfl rfl)
theorem dX6_comes_30 : decode cX6_comes 30 = .ok (.irem, 1) := dk_112 (dk_at dksX6_comes_1 6 rfl rfl)
theorem dX6_comes_31 : decode cX6_comes 31 = .ok (.iadd, 1) := dk_96 (dk_at dksX6_comes_1 7 rfl rfl)
theorem dX6_comes_32 : decode cX6_comes 32 = .ok (.bipush 10, 2) := dk_16 10 (dk_at dksX6_comes_1 8 rfl rfl)
theorem dX6_comes_34 : decode cX6_comes 34 = .ok (.irem, 1) := dk_112 (dk_at dksX6_comes_1 10 rfl rfl)
theorem dX6_comes_35 : decode cX6_comes 35 = .ok (.goto 5, 3) := dk_167 0 5 (dk_at dksX6_comes_1 11 rfl rfl)
theorem dX6_comes_38 : decode cX6_comes 38 = .ok (.iload 4, 2) := dk_21 4 (dk_at dksX6_comes_1 14 rfl rfl)
theorem dX6_comes_40 : decode cX6_comes 40 = .ok (.ireturn, 1) := dk_172 (dk_at dksX6_comes_1 16 rfl rfl)
abbrev cX6_garbles : ByteArray := prog_9_method_4_code
def yX6_garbles : MethodName := ⟨RX6, "garbles", "(III)Z"⟩
def dkwX6_garbles_1 : List UInt8 := [162, 0, 7, 4, 167, 0, 4, 3, 172]
abbrev dktX6_garbles_1 : List UInt8 := dkwX6_garbles_1 ++ []
def dkwX6_garbles_0 : List UInt8 := [16, 7, 28, 104, 6, 29, 104, 96, 42, 180, 0, 15, 27, 46, 96, 16, 10, 112, 42, 180, 0, 9, 27, 46]
abbrev dktX6_garbles_0 : List UInt8 := dkwX6_garbles_0 ++ dktX6_garbles_1
theorem dksX6_garbles_0 : cX6_garbles.data.toList.drop 0 = dktX6_garbles_0 := by decide +kernel
theorem dksX6_garbles_1 : cX6_garbles.data.toList.drop 24 = dktX6_garbles_1 := dk_seg dksX6_garbles_0 24 rfl rfl
theorem dX6_garbles_0 : decode cX6_garbles 0 = .ok (.bipush 7, 2) := dk_16 7 (dk_at dksX6_garbles_0 0 rfl rfl)
theorem dX6_garbles_2 : decode cX6_garbles 2 = .ok (.iload_n 2, 1) := dk_28 (dk_at dksX6_garbles_0 2 rfl rfl)
theorem dX6_garbles_3 : decode cX6_garbles 3 = .ok (.imul, 1) := dk_104 (dk_at dksX6_garbles_0 3 rfl rfl)
theorem dX6_garbles_4 : decode cX6_garbles 4 = .ok (.iconst 3, 1) := dk_6 (dk_at dksX6_garbles_0 4 rfl rfl)
theorem dX6_garbles_5 : decode cX6_garbles 5 = .ok (.iload_n 3, 1) := dk_29 (dk_at dksX6_garbles_0 5 rfl rfl)
theorem dX6_garbles_6 : decode cX6_garbles 6 = .ok (.imul, 1) := dk_104 (dk_at dksX6_garbles_0 6 rfl rfl)
theorem dX6_garbles_7 : decode cX6_garbles 7 = .ok (.iadd, 1) := dk_96 (dk_at dksX6_garbles_0 7 rfl rfl)
theorem dX6_garbles_8 : decode cX6_garbles 8 = .ok (.aload_n 0, 1) := dk_42 (dk_at dksX6_garbles_0 8 rfl rfl)
theorem dX6_garbles_9 : decode cX6_garbles 9 = .ok (.getfield 15, 3) := dk_180 0 15 (dk_at dksX6_garbles_0 9 rfl rfl)
theorem dX6_garbles_12 : decode cX6_garbles 12 = .ok (.iload_n 1, 1) := dk_27 (dk_at dksX6_garbles_0 12 rfl rfl)
theorem dX6_garbles_13 : decode cX6_garbles 13 = .ok (.iaload, 1) := dk_46 (dk_at dksX6_garbles_0 13 rfl rfl)
theorem dX6_garbles_14 : decode cX6_garbles 14 = .ok (.iadd, 1) := dk_96 (dk_at dksX6_garbles_0 14 rfl rfl)
theorem dX6_garbles_15 : decode cX6_garbles 15 = .ok (.bipush 10, 2) := dk_16 10 (dk_at dksX6_garbles_0 15 rfl rfl)
theorem dX6_garbles_17 : decode cX6_garbles 17 = .ok (.irem, 1) := dk_112 (dk_at dksX6_garbles_0 17 rfl rfl)
theorem dX6_garbles_18 : decode cX6_garbles 18 = .ok (.aload_n 0, 1) := dk_42 (dk_at dksX6_garbles_0 18 rfl rfl)
theorem dX6_garbles_19 : decode cX6_garbles 19 = .ok (.getfield 9, 3) := dk_180 0 9 (dk_at dksX6_garbles_0 19 rfl rfl)
theorem dX6_garbles_22 : decode cX6_garbles 22 = .ok (.iload_n 1, 1) := dk_27 (dk_at dksX6_garbles_0 22 rfl rfl)
theorem dX6_garbles_23 : decode cX6_garbles 23 = .ok (.iaload, 1) := dk_46 (dk_at dksX6_garbles_0 23 rfl rfl)
theorem dX6_garbles_24 : decode cX6_garbles 24 = .ok (.if_icmp .ge 7, 3) := dk_162 0 7 (dk_at dksX6_garbles_1 0 rfl rfl)
theorem dX6_garbles_27 : decode cX6_garbles 27 = .ok (.iconst 1, 1) := dk_4 (dk_at dksX6_garbles_1 3 rfl rfl)
theorem dX6_garbles_28 : decode cX6_garbles 28 = .ok (.goto 4, 3) := dk_167 0 4 (dk_at dksX6_garbles_1 4 rfl rfl)
theorem dX6_garbles_31 : decode cX6_garbles 31 = .ok (.iconst 0, 1) := dk_3 (dk_at dksX6_garbles_1 7 rfl rfl)
theorem dX6_garbles_32 : decode cX6_garbles 32 = .ok (.ireturn, 1) := dk_172 (dk_at dksX6_garbles_1 8 rfl rfl)
abbrev cX6_worst : ByteArray := prog_9_method_10_code
def yX6_worst : MethodName := ⟨RX6, "worst", "()I"⟩
def dkwX6_worst_1 : List UInt8 := [167, 0, 12, 29, 60, 42, 180, 0, 21, 29, 46, 61, 132, 3, 1, 167, 255, 223, 27, 172]
abbrev dktX6_worst_1 : List UInt8 := dkwX6_worst_1 ++ []
def dkwX6_worst_0 : List UInt8 := [2, 60, 3, 61, 3, 62, 29, 42, 182, 0, 28, 162, 0, 31, 42, 180, 0, 21, 29, 46, 28, 163, 0, 6]
abbrev dktX6_worst_0 : List UInt8 := dkwX6_worst_0 ++ dktX6_worst_1
theorem dksX6_worst_0 : cX6_worst.data.toList.drop 0 = dktX6_worst_0 := by decide +kernel
theorem dksX6_worst_1 : cX6_worst.data.toList.drop 24 = dktX6_worst_1 := dk_seg dksX6_worst_0 24 rfl rfl
theorem dX6_worst_0 : decode cX6_worst 0 = .ok (.iconst (-1), 1) := dk_2 (dk_at dksX6_worst_0 0 rfl rfl)
theorem dX6_worst_1 : decode cX6_worst 1 = .ok (.istore_n 1, 1) := dk_60 (dk_at dksX6_worst_0 1 rfl rfl)
theorem dX6_worst_2 : decode cX6_worst 2 = .ok (.iconst 0, 1) := dk_3 (dk_at dksX6_worst_0 2 rfl rfl)
theorem dX6_worst_3 : decode cX6_worst 3 = .ok (.istore_n 2, 1) := dk_61 (dk_at dksX6_worst_0 3 rfl rfl)
theorem dX6_worst_4 : decode cX6_worst 4 = .ok (.iconst 0, 1) := dk_3 (dk_at dksX6_worst_0 4 rfl rfl)
theorem dX6_worst_5 : decode cX6_worst 5 = .ok (.istore_n 3, 1) := dk_62 (dk_at dksX6_worst_0 5 rfl rfl)
theorem dX6_worst_6 : decode cX6_worst 6 = .ok (.iload_n 3, 1) := dk_29 (dk_at dksX6_worst_0 6 rfl rfl)
theorem dX6_worst_7 : decode cX6_worst 7 = .ok (.aload_n 0, 1) := dk_42 (dk_at dksX6_worst_0 7 rfl rfl)
theorem dX6_worst_8 : decode cX6_worst 8 = .ok (.invokevirtual 28, 3) := dk_182 0 28 (dk_at dksX6_worst_0 8 rfl rfl)
theorem dX6_worst_11 : decode cX6_worst 11 = .ok (.if_icmp .ge 31, 3) := dk_162 0 31 (dk_at dksX6_worst_0 11 rfl rfl)
theorem dX6_worst_14 : decode cX6_worst 14 = .ok (.aload_n 0, 1) := dk_42 (dk_at dksX6_worst_0 14 rfl rfl)
theorem dX6_worst_15 : decode cX6_worst 15 = .ok (.getfield 21, 3) := dk_180 0 21 (dk_at dksX6_worst_0 15 rfl rfl)
theorem dX6_worst_18 : decode cX6_worst 18 = .ok (.iload_n 3, 1) := dk_29 (dk_at dksX6_worst_0 18 rfl rfl)
theorem dX6_worst_19 : decode cX6_worst 19 = .ok (.iaload, 1) := dk_46 (dk_at dksX6_worst_0 19 rfl rfl)
theorem dX6_worst_20 : decode cX6_worst 20 = .ok (.iload_n 2, 1) := dk_28 (dk_at dksX6_worst_0 20 rfl rfl)
theorem dX6_worst_21 : decode cX6_worst 21 = .ok (.if_icmp .gt 6, 3) := dk_163 0 6 (dk_at dksX6_worst_0 21 rfl rfl)
theorem dX6_worst_24 : decode cX6_worst 24 = .ok (.goto 12, 3) := dk_167 0 12 (dk_at dksX6_worst_1 0 rfl rfl)
theorem dX6_worst_27 : decode cX6_worst 27 = .ok (.iload_n 3, 1) := dk_29 (dk_at dksX6_worst_1 3 rfl rfl)
theorem dX6_worst_28 : decode cX6_worst 28 = .ok (.istore_n 1, 1) := dk_60 (dk_at dksX6_worst_1 4 rfl rfl)
theorem dX6_worst_29 : decode cX6_worst 29 = .ok (.aload_n 0, 1) := dk_42 (dk_at dksX6_worst_1 5 rfl rfl)
theorem dX6_worst_30 : decode cX6_worst 30 = .ok (.getfield 21, 3) := dk_180 0 21 (dk_at dksX6_worst_1 6 rfl rfl)
theorem dX6_worst_33 : decode cX6_worst 33 = .ok (.iload_n 3, 1) := dk_29 (dk_at dksX6_worst_1 9 rfl rfl)
theorem dX6_worst_34 : decode cX6_worst 34 = .ok (.iaload, 1) := dk_46 (dk_at dksX6_worst_1 10 rfl rfl)
theorem dX6_worst_35 : decode cX6_worst 35 = .ok (.istore_n 2, 1) := dk_61 (dk_at dksX6_worst_1 11 rfl rfl)
theorem dX6_worst_36 : decode cX6_worst 36 = .ok (.iinc 3 1, 3) := dk_132 3 1 (dk_at dksX6_worst_1 12 rfl rfl)
theorem dX6_worst_39 : decode cX6_worst 39 = .ok (.goto (-33), 3) := dk_167 255 223 (dk_at dksX6_worst_1 15 rfl rfl)
theorem dX6_worst_42 : decode cX6_worst 42 = .ok (.iload_n 1, 1) := dk_27 (dk_at dksX6_worst_1 18 rfl rfl)
theorem dX6_worst_43 : decode cX6_worst 43 = .ok (.ireturn, 1) := dk_172 (dk_at dksX6_worst_1 19 rfl rfl)
abbrev cX6_garbling : ByteArray := prog_9_method_12_code
def yX6_garbling : MethodName := ⟨RX6, "garbling", "(II)I"⟩
def dkwX6_garbling_1 : List UInt8 := [184, 0, 72, 96, 62, 132, 4, 1, 167, 255, 230, 29, 172]
abbrev dktX6_garbling_1 : List UInt8 := dkwX6_garbling_1 ++ []
def dkwX6_garbling_0 : List UInt8 := [3, 62, 3, 54, 4, 21, 4, 42, 182, 0, 28, 162, 0, 23, 29, 42, 21, 4, 27, 28, 182, 0, 51]
abbrev dktX6_garbling_0 : List UInt8 := dkwX6_garbling_0 ++ dktX6_garbling_1
theorem dksX6_garbling_0 : cX6_garbling.data.toList.drop 0 = dktX6_garbling_0 := by decide +kernel
theorem dksX6_garbling_1 : cX6_garbling.data.toList.drop 23 = dktX6_garbling_1 := dk_seg dksX6_garbling_0 23 rfl rfl
theorem dX6_garbling_0 : decode cX6_garbling 0 = .ok (.iconst 0, 1) := dk_3 (dk_at dksX6_garbling_0 0 rfl rfl)
theorem dX6_garbling_1 : decode cX6_garbling 1 = .ok (.istore_n 3, 1) := dk_62 (dk_at dksX6_garbling_0 1 rfl rfl)
theorem dX6_garbling_2 : decode cX6_garbling 2 = .ok (.iconst 0, 1) := dk_3 (dk_at dksX6_garbling_0 2 rfl rfl)
theorem dX6_garbling_3 : decode cX6_garbling 3 = .ok (.istore 4, 2) := dk_54 4 (dk_at dksX6_garbling_0 3 rfl rfl)
theorem dX6_garbling_5 : decode cX6_garbling 5 = .ok (.iload 4, 2) := dk_21 4 (dk_at dksX6_garbling_0 5 rfl rfl)
theorem dX6_garbling_7 : decode cX6_garbling 7 = .ok (.aload_n 0, 1) := dk_42 (dk_at dksX6_garbling_0 7 rfl rfl)
theorem dX6_garbling_8 : decode cX6_garbling 8 = .ok (.invokevirtual 28, 3) := dk_182 0 28 (dk_at dksX6_garbling_0 8 rfl rfl)
theorem dX6_garbling_11 : decode cX6_garbling 11 = .ok (.if_icmp .ge 23, 3) := dk_162 0 23 (dk_at dksX6_garbling_0 11 rfl rfl)
theorem dX6_garbling_14 : decode cX6_garbling 14 = .ok (.iload_n 3, 1) := dk_29 (dk_at dksX6_garbling_0 14 rfl rfl)
theorem dX6_garbling_15 : decode cX6_garbling 15 = .ok (.aload_n 0, 1) := dk_42 (dk_at dksX6_garbling_0 15 rfl rfl)
theorem dX6_garbling_16 : decode cX6_garbling 16 = .ok (.iload 4, 2) := dk_21 4 (dk_at dksX6_garbling_0 16 rfl rfl)
theorem dX6_garbling_18 : decode cX6_garbling 18 = .ok (.iload_n 1, 1) := dk_27 (dk_at dksX6_garbling_0 18 rfl rfl)
theorem dX6_garbling_19 : decode cX6_garbling 19 = .ok (.iload_n 2, 1) := dk_28 (dk_at dksX6_garbling_0 19 rfl rfl)
theorem dX6_garbling_20 : decode cX6_garbling 20 = .ok (.invokevirtual 51, 3) := dk_182 0 51 (dk_at dksX6_garbling_0 20 rfl rfl)
theorem dX6_garbling_23 : decode cX6_garbling 23 = .ok (.invokestatic 72, 3) := dk_184 0 72 (dk_at dksX6_garbling_1 0 rfl rfl)
theorem dX6_garbling_26 : decode cX6_garbling 26 = .ok (.iadd, 1) := dk_96 (dk_at dksX6_garbling_1 3 rfl rfl)
theorem dX6_garbling_27 : decode cX6_garbling 27 = .ok (.istore_n 3, 1) := dk_62 (dk_at dksX6_garbling_1 4 rfl rfl)
theorem dX6_garbling_28 : decode cX6_garbling 28 = .ok (.iinc 4 1, 3) := dk_132 4 1 (dk_at dksX6_garbling_1 5 rfl rfl)
theorem dX6_garbling_31 : decode cX6_garbling 31 = .ok (.goto (-26), 3) := dk_167 255 230 (dk_at dksX6_garbling_1 8 rfl rfl)
theorem dX6_garbling_34 : decode cX6_garbling 34 = .ok (.iload_n 3, 1) := dk_29 (dk_at dksX6_garbling_1 11 rfl rfl)
theorem dX6_garbling_35 : decode cX6_garbling 35 = .ok (.ireturn, 1) := dk_172 (dk_at dksX6_garbling_1 12 rfl rfl)
abbrev cX6_garbled : ByteArray := prog_9_method_11_code
def yX6_garbled : MethodName := ⟨RX6, "garbled", "(I)I"⟩
def dkwX6_garbled_1 : List UInt8 := [167, 255, 238, 28, 172]
abbrev dktX6_garbled_1 : List UInt8 := dkwX6_garbled_1 ++ []
def dkwX6_garbled_0 : List UInt8 := [3, 61, 3, 62, 29, 16, 12, 162, 0, 18, 28, 42, 27, 29, 182, 0, 68, 96, 61, 132, 3, 1]
abbrev dktX6_garbled_0 : List UInt8 := dkwX6_garbled_0 ++ dktX6_garbled_1
theorem dksX6_garbled_0 : cX6_garbled.data.toList.drop 0 = dktX6_garbled_0 := by decide +kernel
theorem dksX6_garbled_1 : cX6_garbled.data.toList.drop 22 = dktX6_garbled_1 := dk_seg dksX6_garbled_0 22 rfl rfl
theorem dX6_garbled_0 : decode cX6_garbled 0 = .ok (.iconst 0, 1) := dk_3 (dk_at dksX6_garbled_0 0 rfl rfl)
theorem dX6_garbled_1 : decode cX6_garbled 1 = .ok (.istore_n 2, 1) := dk_61 (dk_at dksX6_garbled_0 1 rfl rfl)
theorem dX6_garbled_2 : decode cX6_garbled 2 = .ok (.iconst 0, 1) := dk_3 (dk_at dksX6_garbled_0 2 rfl rfl)
theorem dX6_garbled_3 : decode cX6_garbled 3 = .ok (.istore_n 3, 1) := dk_62 (dk_at dksX6_garbled_0 3 rfl rfl)
theorem dX6_garbled_4 : decode cX6_garbled 4 = .ok (.iload_n 3, 1) := dk_29 (dk_at dksX6_garbled_0 4 rfl rfl)
theorem dX6_garbled_5 : decode cX6_garbled 5 = .ok (.bipush 12, 2) := dk_16 12 (dk_at dksX6_garbled_0 5 rfl rfl)
theorem dX6_garbled_7 : decode cX6_garbled 7 = .ok (.if_icmp .ge 18, 3) := dk_162 0 18 (dk_at dksX6_garbled_0 7 rfl rfl)
theorem dX6_garbled_10 : decode cX6_garbled 10 = .ok (.iload_n 2, 1) := dk_28 (dk_at dksX6_garbled_0 10 rfl rfl)
theorem dX6_garbled_11 : decode cX6_garbled 11 = .ok (.aload_n 0, 1) := dk_42 (dk_at dksX6_garbled_0 11 rfl rfl)
theorem dX6_garbled_12 : decode cX6_garbled 12 = .ok (.iload_n 1, 1) := dk_27 (dk_at dksX6_garbled_0 12 rfl rfl)
theorem dX6_garbled_13 : decode cX6_garbled 13 = .ok (.iload_n 3, 1) := dk_29 (dk_at dksX6_garbled_0 13 rfl rfl)
theorem dX6_garbled_14 : decode cX6_garbled 14 = .ok (.invokevirtual 68, 3) := dk_182 0 68 (dk_at dksX6_garbled_0 14 rfl rfl)
theorem dX6_garbled_17 : decode cX6_garbled 17 = .ok (.iadd, 1) := dk_96 (dk_at dksX6_garbled_0 17 rfl rfl)
theorem dX6_garbled_18 : decode cX6_garbled 18 = .ok (.istore_n 2, 1) := dk_61 (dk_at dksX6_garbled_0 18 rfl rfl)
theorem dX6_garbled_19 : decode cX6_garbled 19 = .ok (.iinc 3 1, 3) := dk_132 3 1 (dk_at dksX6_garbled_0 19 rfl rfl)
theorem dX6_garbled_22 : decode cX6_garbled 22 = .ok (.goto (-18), 3) := dk_167 255 238 (dk_at dksX6_garbled_1 0 rfl rfl)
theorem dX6_garbled_25 : decode cX6_garbled 25 = .ok (.iload_n 2, 1) := dk_28 (dk_at dksX6_garbled_1 3 rfl rfl)
theorem dX6_garbled_26 : decode cX6_garbled 26 = .ok (.ireturn, 1) := dk_172 (dk_at dksX6_garbled_1 4 rfl rfl)
abbrev cX6_gap : ByteArray := prog_9_method_9_code
def yX6_gap : MethodName := ⟨RX6, "gap", "()I"⟩
def dkwX6_gap_2 : List UInt8 := [184, 0, 62, 28, 184, 0, 62, 96, 172]
abbrev dktX6_gap_2 : List UInt8 := dkwX6_gap_2 ++ []
def dkwX6_gap_1 : List UInt8 := [180, 0, 18, 29, 46, 100, 60, 28, 42, 180, 0, 21, 29, 46, 100, 61, 132, 3, 1, 167, 255, 227, 27]
abbrev dktX6_gap_1 : List UInt8 := dkwX6_gap_1 ++ dktX6_gap_2
def dkwX6_gap_0 : List UInt8 := [42, 180, 0, 41, 60, 42, 180, 0, 45, 61, 3, 62, 29, 42, 182, 0, 28, 162, 0, 27, 27, 42]
abbrev dktX6_gap_0 : List UInt8 := dkwX6_gap_0 ++ dktX6_gap_1
theorem dksX6_gap_0 : cX6_gap.data.toList.drop 0 = dktX6_gap_0 := by decide +kernel
theorem dksX6_gap_1 : cX6_gap.data.toList.drop 22 = dktX6_gap_1 := dk_seg dksX6_gap_0 22 rfl rfl
theorem dksX6_gap_2 : cX6_gap.data.toList.drop 45 = dktX6_gap_2 := dk_seg dksX6_gap_1 23 rfl rfl
theorem dX6_gap_0 : decode cX6_gap 0 = .ok (.aload_n 0, 1) := dk_42 (dk_at dksX6_gap_0 0 rfl rfl)
theorem dX6_gap_1 : decode cX6_gap 1 = .ok (.getfield 41, 3) := dk_180 0 41 (dk_at dksX6_gap_0 1 rfl rfl)
theorem dX6_gap_4 : decode cX6_gap 4 = .ok (.istore_n 1, 1) := dk_60 (dk_at dksX6_gap_0 4 rfl rfl)
theorem dX6_gap_5 : decode cX6_gap 5 = .ok (.aload_n 0, 1) := dk_42 (dk_at dksX6_gap_0 5 rfl rfl)
theorem dX6_gap_6 : decode cX6_gap 6 = .ok (.getfield 45, 3) := dk_180 0 45 (dk_at dksX6_gap_0 6 rfl rfl)
theorem dX6_gap_9 : decode cX6_gap 9 = .ok (.istore_n 2, 1) := dk_61 (dk_at dksX6_gap_0 9 rfl rfl)
theorem dX6_gap_10 : decode cX6_gap 10 = .ok (.iconst 0, 1) := dk_3 (dk_at dksX6_gap_0 10 rfl rfl)
theorem dX6_gap_11 : decode cX6_gap 11 = .ok (.istore_n 3, 1) := dk_62 (dk_at dksX6_gap_0 11 rfl rfl)
theorem dX6_gap_12 : decode cX6_gap 12 = .ok (.iload_n 3, 1) := dk_29 (dk_at dksX6_gap_0 12 rfl rfl)
theorem dX6_gap_13 : decode cX6_gap 13 = .ok (.aload_n 0, 1) := dk_42 (dk_at dksX6_gap_0 13 rfl rfl)
theorem dX6_gap_14 : decode cX6_gap 14 = .ok (.invokevirtual 28, 3) := dk_182 0 28 (dk_at dksX6_gap_0 14 rfl rfl)
theorem dX6_gap_17 : decode cX6_gap 17 = .ok (.if_icmp .ge 27, 3) := dk_162 0 27 (dk_at dksX6_gap_0 17 rfl rfl)
theorem dX6_gap_20 : decode cX6_gap 20 = .ok (.iload_n 1, 1) := dk_27 (dk_at dksX6_gap_0 20 rfl rfl)
theorem dX6_gap_21 : decode cX6_gap 21 = .ok (.aload_n 0, 1) := dk_42 (dk_at dksX6_gap_0 21 rfl rfl)
theorem dX6_gap_22 : decode cX6_gap 22 = .ok (.getfield 18, 3) := dk_180 0 18 (dk_at dksX6_gap_1 0 rfl rfl)
theorem dX6_gap_25 : decode cX6_gap 25 = .ok (.iload_n 3, 1) := dk_29 (dk_at dksX6_gap_1 3 rfl rfl)
theorem dX6_gap_26 : decode cX6_gap 26 = .ok (.iaload, 1) := dk_46 (dk_at dksX6_gap_1 4 rfl rfl)
theorem dX6_gap_27 : decode cX6_gap 27 = .ok (.isub, 1) := dk_100 (dk_at dksX6_gap_1 5 rfl rfl)
theorem dX6_gap_28 : decode cX6_gap 28 = .ok (.istore_n 1, 1) := dk_60 (dk_at dksX6_gap_1 6 rfl rfl)
theorem dX6_gap_29 : decode cX6_gap 29 = .ok (.iload_n 2, 1) := dk_28 (dk_at dksX6_gap_1 7 rfl rfl)
theorem dX6_gap_30 : decode cX6_gap 30 = .ok (.aload_n 0, 1) := dk_42 (dk_at dksX6_gap_1 8 rfl rfl)
theorem dX6_gap_31 : decode cX6_gap 31 = .ok (.getfield 21, 3) := dk_180 0 21 (dk_at dksX6_gap_1 9 rfl rfl)
theorem dX6_gap_34 : decode cX6_gap 34 = .ok (.iload_n 3, 1) := dk_29 (dk_at dksX6_gap_1 12 rfl rfl)
theorem dX6_gap_35 : decode cX6_gap 35 = .ok (.iaload, 1) := dk_46 (dk_at dksX6_gap_1 13 rfl rfl)
theorem dX6_gap_36 : decode cX6_gap 36 = .ok (.isub, 1) := dk_100 (dk_at dksX6_gap_1 14 rfl rfl)
theorem dX6_gap_37 : decode cX6_gap 37 = .ok (.istore_n 2, 1) := dk_61 (dk_at dksX6_gap_1 15 rfl rfl)
theorem dX6_gap_38 : decode cX6_gap 38 = .ok (.iinc 3 1, 3) := dk_132 3 1 (dk_at dksX6_gap_1 16 rfl rfl)
theorem dX6_gap_41 : decode cX6_gap 41 = .ok (.goto (-29), 3) := dk_167 255 227 (dk_at dksX6_gap_1 19 rfl rfl)
theorem dX6_gap_44 : decode cX6_gap 44 = .ok (.iload_n 1, 1) := dk_27 (dk_at dksX6_gap_1 22 rfl rfl)
theorem dX6_gap_45 : decode cX6_gap 45 = .ok (.invokestatic 62, 3) := dk_184 0 62 (dk_at dksX6_gap_2 0 rfl rfl)
theorem dX6_gap_48 : decode cX6_gap 48 = .ok (.iload_n 2, 1) := dk_28 (dk_at dksX6_gap_2 3 rfl rfl)
theorem dX6_gap_49 : decode cX6_gap 49 = .ok (.invokestatic 62, 3) := dk_184 0 62 (dk_at dksX6_gap_2 4 rfl rfl)
theorem dX6_gap_52 : decode cX6_gap 52 = .ok (.iadd, 1) := dk_96 (dk_at dksX6_gap_2 7 rfl rfl)
theorem dX6_gap_53 : decode cX6_gap 53 = .ok (.ireturn, 1) := dk_172 (dk_at dksX6_gap_2 8 rfl rfl)
abbrev cX6_init_2 : ByteArray := prog_9_method_2_code
def yX6_init_2 : MethodName := ⟨RX6, "<init>", "(LVotingHuts$Wires;)V"⟩
def dkwX6_init_2_5 : List UInt8 := [180, 0, 48, 181, 0, 48, 177]
abbrev dktX6_init_2_5 : List UInt8 := dkwX6_init_2_5 ++ []
def dkwX6_init_2_4 : List UInt8 := [182, 0, 28, 184, 0, 35, 42, 43, 180, 0, 41, 181, 0, 41, 42, 43, 180, 0, 45, 181, 0, 45, 42, 43]
abbrev dktX6_init_2_4 : List UInt8 := dkwX6_init_2_4 ++ dktX6_init_2_5
def dkwX6_init_2_3 : List UInt8 := [180, 0, 21, 3, 42, 182, 0, 28, 184, 0, 35, 43, 180, 0, 24, 3, 42, 180, 0, 24, 3, 42]
abbrev dktX6_init_2_3 : List UInt8 := dkwX6_init_2_3 ++ dktX6_init_2_4
def dkwX6_init_2_2 : List UInt8 := [180, 0, 18, 3, 42, 180, 0, 18, 3, 42, 182, 0, 28, 184, 0, 35, 43, 180, 0, 21, 3, 42]
abbrev dktX6_init_2_2 : List UInt8 := dkwX6_init_2_2 ++ dktX6_init_2_3
def dkwX6_init_2_1 : List UInt8 := [182, 0, 28, 184, 0, 35, 43, 180, 0, 15, 3, 42, 180, 0, 15, 3, 42, 182, 0, 28, 184, 0, 35, 43]
abbrev dktX6_init_2_1 : List UInt8 := dkwX6_init_2_1 ++ dktX6_init_2_2
def dkwX6_init_2_0 : List UInt8 := [42, 43, 182, 0, 28, 16, 9, 108, 4, 96, 183, 0, 32, 43, 180, 0, 9, 3, 42, 180, 0, 9, 3, 42]
abbrev dktX6_init_2_0 : List UInt8 := dkwX6_init_2_0 ++ dktX6_init_2_1
theorem dksX6_init_2_0 : cX6_init_2.data.toList.drop 0 = dktX6_init_2_0 := by decide +kernel
theorem dksX6_init_2_1 : cX6_init_2.data.toList.drop 24 = dktX6_init_2_1 := dk_seg dksX6_init_2_0 24 rfl rfl
theorem dksX6_init_2_2 : cX6_init_2.data.toList.drop 48 = dktX6_init_2_2 := dk_seg dksX6_init_2_1 24 rfl rfl
theorem dksX6_init_2_3 : cX6_init_2.data.toList.drop 70 = dktX6_init_2_3 := dk_seg dksX6_init_2_2 22 rfl rfl
theorem dksX6_init_2_4 : cX6_init_2.data.toList.drop 92 = dktX6_init_2_4 := dk_seg dksX6_init_2_3 22 rfl rfl
theorem dksX6_init_2_5 : cX6_init_2.data.toList.drop 116 = dktX6_init_2_5 := dk_seg dksX6_init_2_4 24 rfl rfl
theorem dX6_init_2_0 : decode cX6_init_2 0 = .ok (.aload_n 0, 1) := dk_42 (dk_at dksX6_init_2_0 0 rfl rfl)
theorem dX6_init_2_1 : decode cX6_init_2 1 = .ok (.aload_n 1, 1) := dk_43 (dk_at dksX6_init_2_0 1 rfl rfl)
theorem dX6_init_2_2 : decode cX6_init_2 2 = .ok (.invokevirtual 28, 3) := dk_182 0 28 (dk_at dksX6_init_2_0 2 rfl rfl)
theorem dX6_init_2_5 : decode cX6_init_2 5 = .ok (.bipush 9, 2) := dk_16 9 (dk_at dksX6_init_2_0 5 rfl rfl)
theorem dX6_init_2_7 : decode cX6_init_2 7 = .ok (.idiv, 1) := dk_108 (dk_at dksX6_init_2_0 7 rfl rfl)
theorem dX6_init_2_8 : decode cX6_init_2 8 = .ok (.iconst 1, 1) := dk_4 (dk_at dksX6_init_2_0 8 rfl rfl)
theorem dX6_init_2_9 : decode cX6_init_2 9 = .ok (.iadd, 1) := dk_96 (dk_at dksX6_init_2_0 9 rfl rfl)
theorem dX6_init_2_10 : decode cX6_init_2 10 = .ok (.invokespecial 32, 3) := dk_183 0 32 (dk_at dksX6_init_2_0 10 rfl rfl)
theorem dX6_init_2_13 : decode cX6_init_2 13 = .ok (.aload_n 1, 1) := dk_43 (dk_at dksX6_init_2_0 13 rfl rfl)
theorem dX6_init_2_14 : decode cX6_init_2 14 = .ok (.getfield 9, 3) := dk_180 0 9 (dk_at dksX6_init_2_0 14 rfl rfl)
theorem dX6_init_2_17 : decode cX6_init_2 17 = .ok (.iconst 0, 1) := dk_3 (dk_at dksX6_init_2_0 17 rfl rfl)
theorem dX6_init_2_18 : decode cX6_init_2 18 = .ok (.aload_n 0, 1) := dk_42 (dk_at dksX6_init_2_0 18 rfl rfl)
theorem dX6_init_2_19 : decode cX6_init_2 19 = .ok (.getfield 9, 3) := dk_180 0 9 (dk_at dksX6_init_2_0 19 rfl rfl)
theorem dX6_init_2_22 : decode cX6_init_2 22 = .ok (.iconst 0, 1) := dk_3 (dk_at dksX6_init_2_0 22 rfl rfl)
theorem dX6_init_2_23 : decode cX6_init_2 23 = .ok (.aload_n 0, 1) := dk_42 (dk_at dksX6_init_2_0 23 rfl rfl)
theorem dX6_init_2_24 : decode cX6_init_2 24 = .ok (.invokevirtual 28, 3) := dk_182 0 28 (dk_at dksX6_init_2_1 0 rfl rfl)
theorem dX6_init_2_27 : decode cX6_init_2 27 = .ok (.invokestatic 35, 3) := dk_184 0 35 (dk_at dksX6_init_2_1 3 rfl rfl)
theorem dX6_init_2_30 : decode cX6_init_2 30 = .ok (.aload_n 1, 1) := dk_43 (dk_at dksX6_init_2_1 6 rfl rfl)
theorem dX6_init_2_31 : decode cX6_init_2 31 = .ok (.getfield 15, 3) := dk_180 0 15 (dk_at dksX6_init_2_1 7 rfl rfl)
theorem dX6_init_2_34 : decode cX6_init_2 34 = .ok (.iconst 0, 1) := dk_3 (dk_at dksX6_init_2_1 10 rfl rfl)
theorem dX6_init_2_35 : decode cX6_init_2 35 = .ok (.aload_n 0, 1) := dk_42 (dk_at dksX6_init_2_1 11 rfl rfl)
theorem dX6_init_2_36 : decode cX6_init_2 36 = .ok (.getfield 15, 3) := dk_180 0 15 (dk_at dksX6_init_2_1 12 rfl rfl)
theorem dX6_init_2_39 : decode cX6_init_2 39 = .ok (.iconst 0, 1) := dk_3 (dk_at dksX6_init_2_1 15 rfl rfl)
theorem dX6_init_2_40 : decode cX6_init_2 40 = .ok (.aload_n 0, 1) := dk_42 (dk_at dksX6_init_2_1 16 rfl rfl)
theorem dX6_init_2_41 : decode cX6_init_2 41 = .ok (.invokevirtual 28, 3) := dk_182 0 28 (dk_at dksX6_init_2_1 17 rfl rfl)
theorem dX6_init_2_44 : decode cX6_init_2 44 = .ok (.invokestatic 35, 3) := dk_184 0 35 (dk_at dksX6_init_2_1 20 rfl rfl)
theorem dX6_init_2_47 : decode cX6_init_2 47 = .ok (.aload_n 1, 1) := dk_43 (dk_at dksX6_init_2_1 23 rfl rfl)
theorem dX6_init_2_48 : decode cX6_init_2 48 = .ok (.getfield 18, 3) := dk_180 0 18 (dk_at dksX6_init_2_2 0 rfl rfl)
theorem dX6_init_2_51 : decode cX6_init_2 51 = .ok (.iconst 0, 1) := dk_3 (dk_at dksX6_init_2_2 3 rfl rfl)
theorem dX6_init_2_52 : decode cX6_init_2 52 = .ok (.aload_n 0, 1) := dk_42 (dk_at dksX6_init_2_2 4 rfl rfl)
theorem dX6_init_2_53 : decode cX6_init_2 53 = .ok (.getfield 18, 3) := dk_180 0 18 (dk_at dksX6_init_2_2 5 rfl rfl)
theorem dX6_init_2_56 : decode cX6_init_2 56 = .ok (.iconst 0, 1) := dk_3 (dk_at dksX6_init_2_2 8 rfl rfl)
theorem dX6_init_2_57 : decode cX6_init_2 57 = .ok (.aload_n 0, 1) := dk_42 (dk_at dksX6_init_2_2 9 rfl rfl)
theorem dX6_init_2_58 : decode cX6_init_2 58 = .ok (.invokevirtual 28, 3) := dk_182 0 28 (dk_at dksX6_init_2_2 10 rfl rfl)
theorem dX6_init_2_61 : decode cX6_init_2 61 = .ok (.invokestatic 35, 3) := dk_184 0 35 (dk_at dksX6_init_2_2 13 rfl rfl)
theorem dX6_init_2_64 : decode cX6_init_2 64 = .ok (.aload_n 1, 1) := dk_43 (dk_at dksX6_init_2_2 16 rfl rfl)
theorem dX6_init_2_65 : decode cX6_init_2 65 = .ok (.getfield 21, 3) := dk_180 0 21 (dk_at dksX6_init_2_2 17 rfl rfl)
theorem dX6_init_2_68 : decode cX6_init_2 68 = .ok (.iconst 0, 1) := dk_3 (dk_at dksX6_init_2_2 20 rfl rfl)
theorem dX6_init_2_69 : decode cX6_init_2 69 = .ok (.aload_n 0, 1) := dk_42 (dk_at dksX6_init_2_2 21 rfl rfl)
theorem dX6_init_2_70 : decode cX6_init_2 70 = .ok (.getfield 21, 3) := dk_180 0 21 (dk_at dksX6_init_2_3 0 rfl rfl)
theorem dX6_init_2_73 : decode cX6_init_2 73 = .ok (.iconst 0, 1) := dk_3 (dk_at dksX6_init_2_3 3 rfl rfl)
theorem dX6_init_2_74 : decode cX6_init_2 74 = .ok (.aload_n 0, 1) := dk_42 (dk_at dksX6_init_2_3 4 rfl rfl)
theorem dX6_init_2_75 : decode cX6_init_2 75 = .ok (.invokevirtual 28, 3) := dk_182 0 28 (dk_at dksX6_init_2_3 5 rfl rfl)
theorem dX6_init_2_78 : decode cX6_init_2 78 = .ok (.invokestatic 35, 3) := dk_184 0 35 (dk_at dksX6_init_2_3 8 rfl rfl)
theorem dX6_init_2_81 : decode cX6_init_2 81 = .ok (.aload_n 1, 1) := dk_43 (dk_at dksX6_init_2_3 11 rfl rfl)
theorem dX6_init_2_82 : decode cX6_init_2 82 = .ok (.getfield 24, 3) := dk_180 0 24 (dk_at dksX6_init_2_3 12 rfl rfl)
theorem dX6_init_2_85 : decode cX6_init_2 85 = .ok (.iconst 0, 1) := dk_3 (dk_at dksX6_init_2_3 15 rfl rfl)
theorem dX6_init_2_86 : decode cX6_init_2 86 = .ok (.aload_n 0, 1) := dk_42 (dk_at dksX6_init_2_3 16 rfl rfl)
theorem dX6_init_2_87 : decode cX6_init_2 87 = .ok (.getfield 24, 3) := dk_180 0 24 (dk_at dksX6_init_2_3 17 rfl rfl)
theorem dX6_init_2_90 : decode cX6_init_2 90 = .ok (.iconst 0, 1) := dk_3 (dk_at dksX6_init_2_3 20 rfl rfl)
theorem dX6_init_2_91 : decode cX6_init_2 91 = .ok (.aload_n 0, 1) := dk_42 (dk_at dksX6_init_2_3 21 rfl rfl)
theorem dX6_init_2_92 : decode cX6_init_2 92 = .ok (.invokevirtual 28, 3) := dk_182 0 28 (dk_at dksX6_init_2_4 0 rfl rfl)
theorem dX6_init_2_95 : decode cX6_init_2 95 = .ok (.invokestatic 35, 3) := dk_184 0 35 (dk_at dksX6_init_2_4 3 rfl rfl)
theorem dX6_init_2_98 : decode cX6_init_2 98 = .ok (.aload_n 0, 1) := dk_42 (dk_at dksX6_init_2_4 6 rfl rfl)
theorem dX6_init_2_99 : decode cX6_init_2 99 = .ok (.aload_n 1, 1) := dk_43 (dk_at dksX6_init_2_4 7 rfl rfl)
theorem dX6_init_2_100 : decode cX6_init_2 100 = .ok (.getfield 41, 3) := dk_180 0 41 (dk_at dksX6_init_2_4 8 rfl rfl)
theorem dX6_init_2_103 : decode cX6_init_2 103 = .ok (.putfield 41, 3) := dk_181 0 41 (dk_at dksX6_init_2_4 11 rfl rfl)
theorem dX6_init_2_106 : decode cX6_init_2 106 = .ok (.aload_n 0, 1) := dk_42 (dk_at dksX6_init_2_4 14 rfl rfl)
theorem dX6_init_2_107 : decode cX6_init_2 107 = .ok (.aload_n 1, 1) := dk_43 (dk_at dksX6_init_2_4 15 rfl rfl)
theorem dX6_init_2_108 : decode cX6_init_2 108 = .ok (.getfield 45, 3) := dk_180 0 45 (dk_at dksX6_init_2_4 16 rfl rfl)
theorem dX6_init_2_111 : decode cX6_init_2 111 = .ok (.putfield 45, 3) := dk_181 0 45 (dk_at dksX6_init_2_4 19 rfl rfl)
theorem dX6_init_2_114 : decode cX6_init_2 114 = .ok (.aload_n 0, 1) := dk_42 (dk_at dksX6_init_2_4 22 rfl rfl)
theorem dX6_init_2_115 : decode cX6_init_2 115 = .ok (.aload_n 1, 1) := dk_43 (dk_at dksX6_init_2_4 23 rfl rfl)
theorem dX6_init_2_116 : decode cX6_init_2 116 = .ok (.getfield 48, 3) := dk_180 0 48 (dk_at dksX6_init_2_5 0 rfl rfl)
theorem dX6_init_2_119 : decode cX6_init_2 119 = .ok (.putfield 48, 3) := dk_181 0 48 (dk_at dksX6_init_2_5 3 rfl rfl)
theorem dX6_init_2_122 : decode cX6_init_2 122 = .ok (.return_, 1) := dk_177 (dk_at dksX6_init_2_5 6 rfl rfl)
abbrev cX6_with : ByteArray := prog_9_method_7_code
def yX6_with : MethodName := ⟨RX6, "with", "(III)LVotingHuts$Wires;"⟩
def dkwX6_with_1 : List UInt8 := [29, 79, 25, 4, 176]
abbrev dktX6_with_1 : List UInt8 := dkwX6_with_1 ++ []
def dkwX6_with_0 : List UInt8 := [187, 0, 10, 89, 42, 183, 0, 59, 58, 4, 25, 4, 180, 0, 9, 27, 28, 79, 25, 4, 180, 0, 15, 27]
abbrev dktX6_with_0 : List UInt8 := dkwX6_with_0 ++ dktX6_with_1
theorem dksX6_with_0 : cX6_with.data.toList.drop 0 = dktX6_with_0 := by decide +kernel
theorem dksX6_with_1 : cX6_with.data.toList.drop 24 = dktX6_with_1 := dk_seg dksX6_with_0 24 rfl rfl
theorem dX6_with_0 : decode cX6_with 0 = .ok (.new 10, 3) := dk_187 0 10 (dk_at dksX6_with_0 0 rfl rfl)
theorem dX6_with_3 : decode cX6_with 3 = .ok (.dup, 1) := dk_89 (dk_at dksX6_with_0 3 rfl rfl)
theorem dX6_with_4 : decode cX6_with 4 = .ok (.aload_n 0, 1) := dk_42 (dk_at dksX6_with_0 4 rfl rfl)
theorem dX6_with_5 : decode cX6_with 5 = .ok (.invokespecial 59, 3) := dk_183 0 59 (dk_at dksX6_with_0 5 rfl rfl)
theorem dX6_with_8 : decode cX6_with 8 = .ok (.astore 4, 2) := dk_58 4 (dk_at dksX6_with_0 8 rfl rfl)
theorem dX6_with_10 : decode cX6_with 10 = .ok (.aload 4, 2) := dk_25 4 (dk_at dksX6_with_0 10 rfl rfl)
theorem dX6_with_12 : decode cX6_with 12 = .ok (.getfield 9, 3) := dk_180 0 9 (dk_at dksX6_with_0 12 rfl rfl)
theorem dX6_with_15 : decode cX6_with 15 = .ok (.iload_n 1, 1) := dk_27 (dk_at dksX6_with_0 15 rfl rfl)
theorem dX6_with_16 : decode cX6_with 16 = .ok (.iload_n 2, 1) := dk_28 (dk_at dksX6_with_0 16 rfl rfl)
theorem dX6_with_17 : decode cX6_with 17 = .ok (.iastore, 1) := dk_79 (dk_at dksX6_with_0 17 rfl rfl)
theorem dX6_with_18 : decode cX6_with 18 = .ok (.aload 4, 2) := dk_25 4 (dk_at dksX6_with_0 18 rfl rfl)
theorem dX6_with_20 : decode cX6_with 20 = .ok (.getfield 15, 3) := dk_180 0 15 (dk_at dksX6_with_0 20 rfl rfl)
theorem dX6_with_23 : decode cX6_with 23 = .ok (.iload_n 1, 1) := dk_27 (dk_at dksX6_with_0 23 rfl rfl)
theorem dX6_with_24 : decode cX6_with 24 = .ok (.iload_n 3, 1) := dk_29 (dk_at dksX6_with_1 0 rfl rfl)
theorem dX6_with_25 : decode cX6_with 25 = .ok (.iastore, 1) := dk_79 (dk_at dksX6_with_1 1 rfl rfl)
theorem dX6_with_26 : decode cX6_with 26 = .ok (.aload 4, 2) := dk_25 4 (dk_at dksX6_with_1 2 rfl rfl)
theorem dX6_with_28 : decode cX6_with 28 = .ok (.areturn, 1) := dk_176 (dk_at dksX6_with_1 4 rfl rfl)
abbrev cX6_without : ByteArray := prog_9_method_8_code
def yX6_without : MethodName := ⟨RX6, "without", "(I)LVotingHuts$Wires;"⟩
def dkwX6_without_0 : List UInt8 := [187, 0, 10, 89, 42, 183, 0, 59, 77, 44, 180, 0, 24, 27, 4, 84, 44, 176]
abbrev dktX6_without_0 : List UInt8 := dkwX6_without_0 ++ []
theorem dksX6_without_0 : cX6_without.data.toList.drop 0 = dktX6_without_0 := by decide +kernel
theorem dX6_without_0 : decode cX6_without 0 = .ok (.new 10, 3) := dk_187 0 10 (dk_at dksX6_without_0 0 rfl rfl)
theorem dX6_without_3 : decode cX6_without 3 = .ok (.dup, 1) := dk_89 (dk_at dksX6_without_0 3 rfl rfl)
theorem dX6_without_4 : decode cX6_without 4 = .ok (.aload_n 0, 1) := dk_42 (dk_at dksX6_without_0 4 rfl rfl)
theorem dX6_without_5 : decode cX6_without 5 = .ok (.invokespecial 59, 3) := dk_183 0 59 (dk_at dksX6_without_0 5 rfl rfl)
theorem dX6_without_8 : decode cX6_without 8 = .ok (.astore_n 2, 1) := dk_77 (dk_at dksX6_without_0 8 rfl rfl)
theorem dX6_without_9 : decode cX6_without 9 = .ok (.aload_n 2, 1) := dk_44 (dk_at dksX6_without_0 9 rfl rfl)
theorem dX6_without_10 : decode cX6_without 10 = .ok (.getfield 24, 3) := dk_180 0 24 (dk_at dksX6_without_0 10 rfl rfl)
theorem dX6_without_13 : decode cX6_without 13 = .ok (.iload_n 1, 1) := dk_27 (dk_at dksX6_without_0 13 rfl rfl)
theorem dX6_without_14 : decode cX6_without 14 = .ok (.iconst 1, 1) := dk_4 (dk_at dksX6_without_0 14 rfl rfl)
theorem dX6_without_15 : decode cX6_without 15 = .ok (.bastore, 1) := dk_84 (dk_at dksX6_without_0 15 rfl rfl)
theorem dX6_without_16 : decode cX6_without 16 = .ok (.aload_n 2, 1) := dk_44 (dk_at dksX6_without_0 16 rfl rfl)
theorem dX6_without_17 : decode cX6_without 17 = .ok (.areturn, 1) := dk_176 (dk_at dksX6_without_0 17 rfl rfl)
abbrev cX6_mends : ByteArray := prog_9_method_14_code
def yX6_mends : MethodName := ⟨RX6, "mends", "()I"⟩
def dkwX6_mends_1 : List UInt8 := [132, 2, 1, 167, 255, 238, 27, 172]
abbrev dktX6_mends_1 : List UInt8 := dkwX6_mends_1 ++ []
def dkwX6_mends_0 : List UInt8 := [42, 4, 182, 0, 76, 60, 3, 61, 28, 42, 182, 0, 28, 162, 0, 16, 42, 180, 0, 24, 28, 3, 84]
abbrev dktX6_mends_0 : List UInt8 := dkwX6_mends_0 ++ dktX6_mends_1
theorem dksX6_mends_0 : cX6_mends.data.toList.drop 0 = dktX6_mends_0 := by decide +kernel
theorem dksX6_mends_1 : cX6_mends.data.toList.drop 23 = dktX6_mends_1 := dk_seg dksX6_mends_0 23 rfl rfl
theorem dX6_mends_0 : decode cX6_mends 0 = .ok (.aload_n 0, 1) := dk_42 (dk_at dksX6_mends_0 0 rfl rfl)
theorem dX6_mends_1 : decode cX6_mends 1 = .ok (.iconst 1, 1) := dk_4 (dk_at dksX6_mends_0 1 rfl rfl)
theorem dX6_mends_2 : decode cX6_mends 2 = .ok (.invokevirtual 76, 3) := dk_182 0 76 (dk_at dksX6_mends_0 2 rfl rfl)
theorem dX6_mends_5 : decode cX6_mends 5 = .ok (.istore_n 1, 1) := dk_60 (dk_at dksX6_mends_0 5 rfl rfl)
theorem dX6_mends_6 : decode cX6_mends 6 = .ok (.iconst 0, 1) := dk_3 (dk_at dksX6_mends_0 6 rfl rfl)
theorem dX6_mends_7 : decode cX6_mends 7 = .ok (.istore_n 2, 1) := dk_61 (dk_at dksX6_mends_0 7 rfl rfl)
theorem dX6_mends_8 : decode cX6_mends 8 = .ok (.iload_n 2, 1) := dk_28 (dk_at dksX6_mends_0 8 rfl rfl)
theorem dX6_mends_9 : decode cX6_mends 9 = .ok (.aload_n 0, 1) := dk_42 (dk_at dksX6_mends_0 9 rfl rfl)
theorem dX6_mends_10 : decode cX6_mends 10 = .ok (.invokevirtual 28, 3) := dk_182 0 28 (dk_at dksX6_mends_0 10 rfl rfl)
theorem dX6_mends_13 : decode cX6_mends 13 = .ok (.if_icmp .ge 16, 3) := dk_162 0 16 (dk_at dksX6_mends_0 13 rfl rfl)
theorem dX6_mends_16 : decode cX6_mends 16 = .ok (.aload_n 0, 1) := dk_42 (dk_at dksX6_mends_0 16 rfl rfl)
theorem dX6_mends_17 : decode cX6_mends 17 = .ok (.getfield 24, 3) := dk_180 0 24 (dk_at dksX6_mends_0 17 rfl rfl)
theorem dX6_mends_20 : decode cX6_mends 20 = .ok (.iload_n 2, 1) := dk_28 (dk_at dksX6_mends_0 20 rfl rfl)
theorem dX6_mends_21 : decode cX6_mends 21 = .ok (.iconst 0, 1) := dk_3 (dk_at dksX6_mends_0 21 rfl rfl)
theorem dX6_mends_22 : decode cX6_mends 22 = .ok (.bastore, 1) := dk_84 (dk_at dksX6_mends_0 22 rfl rfl)
theorem dX6_mends_23 : decode cX6_mends 23 = .ok (.iinc 2 1, 3) := dk_132 2 1 (dk_at dksX6_mends_1 0 rfl rfl)
theorem dX6_mends_26 : decode cX6_mends 26 = .ok (.goto (-18), 3) := dk_167 255 238 (dk_at dksX6_mends_1 3 rfl rfl)
theorem dX6_mends_29 : decode cX6_mends 29 = .ok (.iload_n 1, 1) := dk_27 (dk_at dksX6_mends_1 6 rfl rfl)
theorem dX6_mends_30 : decode cX6_mends 30 = .ok (.ireturn, 1) := dk_172 (dk_at dksX6_mends_1 7 rfl rfl)
abbrev cX6_turns : ByteArray := prog_9_method_15_code
def yX6_turns : MethodName := ⟨RX6, "turns", "(I)I"⟩
def dkwX6_turns_5 : List UInt8 := [79, 132, 5, 1, 167, 255, 181, 21, 4, 172]
abbrev dktX6_turns_5 : List UInt8 := dkwX6_turns_5 ++ []
def dkwX6_turns_4 : List UInt8 := [104, 21, 6, 96, 44, 21, 5, 46, 79, 42, 180, 0, 15, 16, 9, 27, 104, 21, 6, 96, 45, 21, 5, 46]
abbrev dktX6_turns_4 : List UInt8 := dkwX6_turns_4 ++ dktX6_turns_5
def dkwX6_turns_3 : List UInt8 := [21, 6, 46, 159, 0, 7, 4, 167, 0, 4, 3, 184, 0, 72, 96, 54, 4, 42, 180, 0, 9, 16, 9, 27]
abbrev dktX6_turns_3 : List UInt8 := dkwX6_turns_3 ++ dktX6_turns_4
def dkwX6_turns_2 : List UInt8 := [21, 5, 16, 9, 162, 0, 74, 21, 5, 6, 96, 16, 9, 112, 54, 6, 21, 4, 44, 21, 5, 46, 44]
abbrev dktX6_turns_2 : List UInt8 := dkwX6_turns_2 ++ dktX6_turns_3
def dkwX6_turns_1 : List UInt8 := [184, 0, 35, 42, 180, 0, 15, 16, 9, 27, 104, 45, 3, 16, 9, 184, 0, 35, 3, 54, 4, 3, 54, 5]
abbrev dktX6_turns_1 : List UInt8 := dkwX6_turns_1 ++ dktX6_turns_2
def dkwX6_turns_0 : List UInt8 := [16, 9, 188, 10, 77, 16, 9, 188, 10, 78, 42, 180, 0, 9, 16, 9, 27, 104, 44, 3, 16, 9]
abbrev dktX6_turns_0 : List UInt8 := dkwX6_turns_0 ++ dktX6_turns_1
theorem dksX6_turns_0 : cX6_turns.data.toList.drop 0 = dktX6_turns_0 := by decide +kernel
theorem dksX6_turns_1 : cX6_turns.data.toList.drop 22 = dktX6_turns_1 := dk_seg dksX6_turns_0 22 rfl rfl
theorem dksX6_turns_2 : cX6_turns.data.toList.drop 46 = dktX6_turns_2 := dk_seg dksX6_turns_1 24 rfl rfl
theorem dksX6_turns_3 : cX6_turns.data.toList.drop 69 = dktX6_turns_3 := dk_seg dksX6_turns_2 23 rfl rfl
theorem dksX6_turns_4 : cX6_turns.data.toList.drop 93 = dktX6_turns_4 := dk_seg dksX6_turns_3 24 rfl rfl
theorem dksX6_turns_5 : cX6_turns.data.toList.drop 117 = dktX6_turns_5 := dk_seg dksX6_turns_4 24 rfl rfl
theorem dX6_turns_0 : decode cX6_turns 0 = .ok (.bipush 9, 2) := dk_16 9 (dk_at dksX6_turns_0 0 rfl rfl)
theorem dX6_turns_2 : decode cX6_turns 2 = .ok (.newarray .int, 2) := dk_188_10 (dk_at dksX6_turns_0 2 rfl rfl)
theorem dX6_turns_4 : decode cX6_turns 4 = .ok (.astore_n 2, 1) := dk_77 (dk_at dksX6_turns_0 4 rfl rfl)
theorem dX6_turns_5 : decode cX6_turns 5 = .ok (.bipush 9, 2) := dk_16 9 (dk_at dksX6_turns_0 5 rfl rfl)
theorem dX6_turns_7 : decode cX6_turns 7 = .ok (.newarray .int, 2) := dk_188_10 (dk_at dksX6_turns_0 7 rfl rfl)
theorem dX6_turns_9 : decode cX6_turns 9 = .ok (.astore_n 3, 1) := dk_78 (dk_at dksX6_turns_0 9 rfl rfl)
theorem dX6_turns_10 : decode cX6_turns 10 = .ok (.aload_n 0, 1) := dk_42 (dk_at dksX6_turns_0 10 rfl rfl)
theorem dX6_turns_11 : decode cX6_turns 11 = .ok (.getfield 9, 3) := dk_180 0 9 (dk_at dksX6_turns_0 11 rfl rfl)
theorem dX6_turns_14 : decode cX6_turns 14 = .ok (.bipush 9, 2) := dk_16 9 (dk_at dksX6_turns_0 14 rfl rfl)
theorem dX6_turns_16 : decode cX6_turns 16 = .ok (.iload_n 1, 1) := dk_27 (dk_at dksX6_turns_0 16 rfl rfl)
theorem dX6_turns_17 : decode cX6_turns 17 = .ok (.imul, 1) := dk_104 (dk_at dksX6_turns_0 17 rfl rfl)
theorem dX6_turns_18 : decode cX6_turns 18 = .ok (.aload_n 2, 1) := dk_44 (dk_at dksX6_turns_0 18 rfl rfl)
theorem dX6_turns_19 : decode cX6_turns 19 = .ok (.iconst 0, 1) := dk_3 (dk_at dksX6_turns_0 19 rfl rfl)
theorem dX6_turns_20 : decode cX6_turns 20 = .ok (.bipush 9, 2) := dk_16 9 (dk_at dksX6_turns_0 20 rfl rfl)
theorem dX6_turns_22 : decode cX6_turns 22 = .ok (.invokestatic 35, 3) := dk_184 0 35 (dk_at dksX6_turns_1 0 rfl rfl)
theorem dX6_turns_25 : decode cX6_turns 25 = .ok (.aload_n 0, 1) := dk_42 (dk_at dksX6_turns_1 3 rfl rfl)
theorem dX6_turns_26 : decode cX6_turns 26 = .ok (.getfield 15, 3) := dk_180 0 15 (dk_at dksX6_turns_1 4 rfl rfl)
theorem dX6_turns_29 : decode cX6_turns 29 = .ok (.bipush 9, 2) := dk_16 9 (dk_at dksX6_turns_1 7 rfl rfl)
theorem dX6_turns_31 : decode cX6_turns 31 = .ok (.iload_n 1, 1) := dk_27 (dk_at dksX6_turns_1 9 rfl rfl)
theorem dX6_turns_32 : decode cX6_turns 32 = .ok (.imul, 1) := dk_104 (dk_at dksX6_turns_1 10 rfl rfl)
theorem dX6_turns_33 : decode cX6_turns 33 = .ok (.aload_n 3, 1) := dk_45 (dk_at dksX6_turns_1 11 rfl rfl)
theorem dX6_turns_34 : decode cX6_turns 34 = .ok (.iconst 0, 1) := dk_3 (dk_at dksX6_turns_1 12 rfl rfl)
theorem dX6_turns_35 : decode cX6_turns 35 = .ok (.bipush 9, 2) := dk_16 9 (dk_at dksX6_turns_1 13 rfl rfl)
theorem dX6_turns_37 : decode cX6_turns 37 = .ok (.invokestatic 35, 3) := dk_184 0 35 (dk_at dksX6_turns_1 15 rfl rfl)
theorem dX6_turns_40 : decode cX6_turns 40 = .ok (.iconst 0, 1) := dk_3 (dk_at dksX6_turns_1 18 rfl rfl)
theorem dX6_turns_41 : decode cX6_turns 41 = .ok (.istore 4, 2) := dk_54 4 (dk_at dksX6_turns_1 19 rfl rfl)
theorem dX6_turns_43 : decode cX6_turns 43 = .ok (.iconst 0, 1) := dk_3 (dk_at dksX6_turns_1 21 rfl rfl)
theorem dX6_turns_44 : decode cX6_turns 44 = .ok (.istore 5, 2) := dk_54 5 (dk_at dksX6_turns_1 22 rfl rfl)
theorem dX6_turns_46 : decode cX6_turns 46 = .ok (.iload 5, 2) := dk_21 5 (dk_at dksX6_turns_2 0 rfl rfl)
theorem dX6_turns_48 : decode cX6_turns 48 = .ok (.bipush 9, 2) := dk_16 9 (dk_at dksX6_turns_2 2 rfl rfl)
theorem dX6_turns_50 : decode cX6_turns 50 = .ok (.if_icmp .ge 74, 3) := dk_162 0 74 (dk_at dksX6_turns_2 4 rfl rfl)
theorem dX6_turns_53 : decode cX6_turns 53 = .ok (.iload 5, 2) := dk_21 5 (dk_at dksX6_turns_2 7 rfl rfl)
theorem dX6_turns_55 : decode cX6_turns 55 = .ok (.iconst 3, 1) := dk_6 (dk_at dksX6_turns_2 9 rfl rfl)
theorem dX6_turns_56 : decode cX6_turns 56 = .ok (.iadd, 1) := dk_96 (dk_at dksX6_turns_2 10 rfl rfl)
theorem dX6_turns_57 : decode cX6_turns 57 = .ok (.bipush 9, 2) := dk_16 9 (dk_at dksX6_turns_2 11 rfl rfl)
theorem dX6_turns_59 : decode cX6_turns 59 = .ok (.irem, 1) := dk_112 (dk_at dksX6_turns_2 13 rfl rfl)
theorem dX6_turns_60 : decode cX6_turns 60 = .ok (.istore 6, 2) := dk_54 6 (dk_at dksX6_turns_2 14 rfl rfl)
theorem dX6_turns_62 : decode cX6_turns 62 = .ok (.iload 4, 2) := dk_21 4 (dk_at dksX6_turns_2 16 rfl rfl)
theorem dX6_turns_64 : decode cX6_turns 64 = .ok (.aload_n 2, 1) := dk_44 (dk_at dksX6_turns_2 18 rfl rfl)
theorem dX6_turns_65 : decode cX6_turns 65 = .ok (.iload 5, 2) := dk_21 5 (dk_at dksX6_turns_2 19 rfl rfl)
theorem dX6_turns_67 : decode cX6_turns 67 = .ok (.iaload, 1) := dk_46 (dk_at dksX6_turns_2 21 rfl rfl)
theorem dX6_turns_68 : decode cX6_turns 68 = .ok (.aload_n 2, 1) := dk_44 (dk_at dksX6_turns_2 22 rfl rfl)
theorem dX6_turns_69 : decode cX6_turns 69 = .ok (.iload 6, 2) := dk_21 6 (dk_at dksX6_turns_3 0 rfl rfl)
theorem dX6_turns_71 : decode cX6_turns 71 = .ok (.iaload, 1) := dk_46 (dk_at dksX6_turns_3 2 rfl rfl)
theorem dX6_turns_72 : decode cX6_turns 72 = .ok (.if_icmp .eq 7, 3) := dk_159 0 7 (dk_at dksX6_turns_3 3 rfl rfl)
theorem dX6_turns_75 : decode cX6_turns 75 = .ok (.iconst 1, 1) := dk_4 (dk_at dksX6_turns_3 6 rfl rfl)
theorem dX6_turns_76 : decode cX6_turns 76 = .ok (.goto 4, 3) := dk_167 0 4 (dk_at dksX6_turns_3 7 rfl rfl)
theorem dX6_turns_79 : decode cX6_turns 79 = .ok (.iconst 0, 1) := dk_3 (dk_at dksX6_turns_3 10 rfl rfl)
theorem dX6_turns_80 : decode cX6_turns 80 = .ok (.invokestatic 72, 3) := dk_184 0 72 (dk_at dksX6_turns_3 11 rfl rfl)
theorem dX6_turns_83 : decode cX6_turns 83 = .ok (.iadd, 1) := dk_96 (dk_at dksX6_turns_3 14 rfl rfl)
theorem dX6_turns_84 : decode cX6_turns 84 = .ok (.istore 4, 2) := dk_54 4 (dk_at dksX6_turns_3 15 rfl rfl)
theorem dX6_turns_86 : decode cX6_turns 86 = .ok (.aload_n 0, 1) := dk_42 (dk_at dksX6_turns_3 17 rfl rfl)
theorem dX6_turns_87 : decode cX6_turns 87 = .ok (.getfield 9, 3) := dk_180 0 9 (dk_at dksX6_turns_3 18 rfl rfl)
theorem dX6_turns_90 : decode cX6_turns 90 = .ok (.bipush 9, 2) := dk_16 9 (dk_at dksX6_turns_3 21 rfl rfl)
theorem dX6_turns_92 : decode cX6_turns 92 = .ok (.iload_n 1, 1) := dk_27 (dk_at dksX6_turns_3 23 rfl rfl)
theorem dX6_turns_93 : decode cX6_turns 93 = .ok (.imul, 1) := dk_104 (dk_at dksX6_turns_4 0 rfl rfl)
theorem dX6_turns_94 : decode cX6_turns 94 = .ok (.iload 6, 2) := dk_21 6 (dk_at dksX6_turns_4 1 rfl rfl)
theorem dX6_turns_96 : decode cX6_turns 96 = .ok (.iadd, 1) := dk_96 (dk_at dksX6_turns_4 3 rfl rfl)
theorem dX6_turns_97 : decode cX6_turns 97 = .ok (.aload_n 2, 1) := dk_44 (dk_at dksX6_turns_4 4 rfl rfl)
theorem dX6_turns_98 : decode cX6_turns 98 = .ok (.iload 5, 2) := dk_21 5 (dk_at dksX6_turns_4 5 rfl rfl)
theorem dX6_turns_100 : decode cX6_turns 100 = .ok (.iaload, 1) := dk_46 (dk_at dksX6_turns_4 7 rfl rfl)
theorem dX6_turns_101 : decode cX6_turns 101 = .ok (.iastore, 1) := dk_79 (dk_at dksX6_turns_4 8 rfl rfl)
theorem dX6_turns_102 : decode cX6_turns 102 = .ok (.aload_n 0, 1) := dk_42 (dk_at dksX6_turns_4 9 rfl rfl)
theorem dX6_turns_103 : decode cX6_turns 103 = .ok (.getfield 15, 3) := dk_180 0 15 (dk_at dksX6_turns_4 10 rfl rfl)
theorem dX6_turns_106 : decode cX6_turns 106 = .ok (.bipush 9, 2) := dk_16 9 (dk_at dksX6_turns_4 13 rfl rfl)
theorem dX6_turns_108 : decode cX6_turns 108 = .ok (.iload_n 1, 1) := dk_27 (dk_at dksX6_turns_4 15 rfl rfl)
theorem dX6_turns_109 : decode cX6_turns 109 = .ok (.imul, 1) := dk_104 (dk_at dksX6_turns_4 16 rfl rfl)
theorem dX6_turns_110 : decode cX6_turns 110 = .ok (.iload 6, 2) := dk_21 6 (dk_at dksX6_turns_4 17 rfl rfl)
theorem dX6_turns_112 : decode cX6_turns 112 = .ok (.iadd, 1) := dk_96 (dk_at dksX6_turns_4 19 rfl rfl)
theorem dX6_turns_113 : decode cX6_turns 113 = .ok (.aload_n 3, 1) := dk_45 (dk_at dksX6_turns_4 20 rfl rfl)
theorem dX6_turns_114 : decode cX6_turns 114 = .ok (.iload 5, 2) := dk_21 5 (dk_at dksX6_turns_4 21 rfl rfl)
theorem dX6_turns_116 : decode cX6_turns 116 = .ok (.iaload, 1) := dk_46 (dk_at dksX6_turns_4 23 rfl rfl)
theorem dX6_turns_117 : decode cX6_turns 117 = .ok (.iastore, 1) := dk_79 (dk_at dksX6_turns_5 0 rfl rfl)
theorem dX6_turns_118 : decode cX6_turns 118 = .ok (.iinc 5 1, 3) := dk_132 5 1 (dk_at dksX6_turns_5 1 rfl rfl)
theorem dX6_turns_121 : decode cX6_turns 121 = .ok (.goto (-75), 3) := dk_167 255 181 (dk_at dksX6_turns_5 4 rfl rfl)
theorem dX6_turns_124 : decode cX6_turns 124 = .ok (.iload 4, 2) := dk_21 4 (dk_at dksX6_turns_5 7 rfl rfl)
theorem dX6_turns_126 : decode cX6_turns 126 = .ok (.ireturn, 1) := dk_172 (dk_at dksX6_turns_5 9 rfl rfl)
theorem q162 : (Jvm.Cond.initialized "VotingHuts$Wires") ∈ lw_all := lw_g (lw_at lw_m1 30 rfl) rfl
theorem q798 : (Jvm.Cond.instantiable "VotingHuts$Wires" (8 : Nat)) ∈ lw_all := lw_g (lw_at lw_m3 186 rfl) rfl
theorem q800 : (Jvm.Cond.instanceMethod ({ cls := "VotingHuts$Wires", name := "<init>", desc := "(I)V" } : Jvm.MethodName)) ∈ lw_all := lw_g (lw_at lw_m3 188 rfl) rfl
theorem q801 : (Jvm.Cond.code ({ cls := "VotingHuts$Wires", name := "<init>", desc := "(I)V" } : Jvm.MethodName) prog_9_method_1_code (3 : Nat) (Option.none : Option Jvm.ClassFile.FieldType)) ∈ lw_all := lw_g (lw_at lw_m3 189 rfl) rfl
theorem q802 : (Jvm.Cond.methodLink "VotingHuts$Wires" (3 : Nat) ({ cls := "java/lang/Object", name := "<init>", desc := "()V" } : Jvm.MethodName)) ∈ lw_all := lw_g (lw_at lw_m3 190 rfl) rfl
theorem q803 : (Jvm.Cond.fieldLink "VotingHuts$Wires" (9 : Nat) "VotingHuts$Wires" "storm" "[I") ∈ lw_all := lw_g (lw_at lw_m3 191 rfl) rfl
theorem q806 : (Jvm.Cond.fieldLink "VotingHuts$Wires" (15 : Nat) "VotingHuts$Wires" "phase" "[I") ∈ lw_all := lw_g (lw_at lw_m3 194 rfl) rfl
theorem q809 : (Jvm.Cond.fieldLink "VotingHuts$Wires" (18 : Nat) "VotingHuts$Wires" "sent" "[I") ∈ lw_all := lw_g (lw_at lw_m3 197 rfl) rfl
theorem q811 : (Jvm.Cond.fieldLink "VotingHuts$Wires" (21 : Nat) "VotingHuts$Wires" "garbled" "[I") ∈ lw_all := lw_g (lw_at lw_m3 199 rfl) rfl
theorem q813 : (Jvm.Cond.fieldLink "VotingHuts$Wires" (24 : Nat) "VotingHuts$Wires" "isCut" "[Z") ∈ lw_all := lw_g (lw_at lw_m3 201 rfl) rfl
theorem q816 : (Jvm.Cond.fieldLink "VotingHuts$Wires" (41 : Nat) "VotingHuts$Wires" "copies" "I") ∈ lw_all := lw_g (lw_at lw_m3 204 rfl) rfl
theorem q818 : (Jvm.Cond.fieldLink "VotingHuts$Wires" (45 : Nat) "VotingHuts$Wires" "wrong" "I") ∈ lw_all := lw_g (lw_at lw_m3 206 rfl) rfl
theorem q820 : (Jvm.Cond.fieldLink "VotingHuts$Wires" (48 : Nat) "VotingHuts$Wires" "missed" "I") ∈ lw_all := lw_g (lw_at lw_m3 208 rfl) rfl
theorem q822 : (Jvm.Cond.laysFinal "VotingHuts$Wires" "VotingHuts$Wires" "storm" "[I") ∈ lw_all := lw_g (lw_at lw_m3 210 rfl) rfl
theorem q823 : (Jvm.Cond.soleField "VotingHuts$Wires" "storm") ∈ lw_all := lw_g (lw_at lw_m3 211 rfl) rfl
theorem q824 : (Jvm.Cond.laysFinal "VotingHuts$Wires" "VotingHuts$Wires" "phase" "[I") ∈ lw_all := lw_g (lw_at lw_m3 212 rfl) rfl
theorem q825 : (Jvm.Cond.soleField "VotingHuts$Wires" "phase") ∈ lw_all := lw_g (lw_at lw_m3 213 rfl) rfl
theorem q826 : (Jvm.Cond.laysFinal "VotingHuts$Wires" "VotingHuts$Wires" "sent" "[I") ∈ lw_all := lw_g (lw_at lw_m3 214 rfl) rfl
theorem q827 : (Jvm.Cond.soleField "VotingHuts$Wires" "sent") ∈ lw_all := lw_g (lw_at lw_m3 215 rfl) rfl
theorem q828 : (Jvm.Cond.laysFinal "VotingHuts$Wires" "VotingHuts$Wires" "garbled" "[I") ∈ lw_all := lw_g (lw_at lw_m3 216 rfl) rfl
theorem q829 : (Jvm.Cond.soleField "VotingHuts$Wires" "garbled") ∈ lw_all := lw_g (lw_at lw_m3 217 rfl) rfl
theorem q830 : (Jvm.Cond.laysFinal "VotingHuts$Wires" "VotingHuts$Wires" "isCut" "[Z") ∈ lw_all := lw_g (lw_at lw_m3 218 rfl) rfl
theorem q831 : (Jvm.Cond.soleField "VotingHuts$Wires" "isCut") ∈ lw_all := lw_g (lw_at lw_m3 219 rfl) rfl
theorem q832 : (Jvm.Cond.lays "VotingHuts$Wires" "VotingHuts$Wires" "copies" "I") ∈ lw_all := lw_g (lw_at lw_m3 220 rfl) rfl
theorem q833 : (Jvm.Cond.soleField "VotingHuts$Wires" "copies") ∈ lw_all := lw_g (lw_at lw_m3 221 rfl) rfl
theorem q834 : (Jvm.Cond.lays "VotingHuts$Wires" "VotingHuts$Wires" "wrong" "I") ∈ lw_all := lw_g (lw_at lw_m3 222 rfl) rfl
theorem q835 : (Jvm.Cond.soleField "VotingHuts$Wires" "wrong") ∈ lw_all := lw_g (lw_at lw_m3 223 rfl) rfl
theorem q836 : (Jvm.Cond.lays "VotingHuts$Wires" "VotingHuts$Wires" "missed" "I") ∈ lw_all := lw_g (lw_at lw_m3 224 rfl) rfl
theorem q837 : (Jvm.Cond.soleField "VotingHuts$Wires" "missed") ∈ lw_all := lw_g (lw_at lw_m3 225 rfl) rfl
theorem q838 : (Jvm.Cond.superclass "VotingHuts$Wires" "java/lang/Object") ∈ lw_all := lw_g (lw_at lw_m3 226 rfl) rfl
theorem q1081 : (Jvm.Cond.selects "VotingHuts$Wires" ({ cls := "java/lang/Object", name := "getClass", desc := "()Ljava/lang/Class;" } : Jvm.MethodName) ({ cls := "java/lang/Object", name := "getClass", desc := "()Ljava/lang/Class;" } : Jvm.MethodName)) ∈ lw_all := lw_g (lw_at lw_m4 229 rfl) rfl
theorem q1247 : (Jvm.Cond.instanceMethod ({ cls := "VotingHuts$Wires", name := "calms", desc := "()I" } : Jvm.MethodName)) ∈ lw_all := lw_g (lw_at lw_m5 155 rfl) rfl
theorem q1248 : (Jvm.Cond.selects "VotingHuts$Wires" ({ cls := "VotingHuts$Wires", name := "calms", desc := "()I" } : Jvm.MethodName) ({ cls := "VotingHuts$Wires", name := "calms", desc := "()I" } : Jvm.MethodName)) ∈ lw_all := lw_g (lw_at lw_m5 156 rfl) rfl
theorem q1249 : (Jvm.Cond.code ({ cls := "VotingHuts$Wires", name := "calms", desc := "()I" } : Jvm.MethodName) prog_9_method_13_code (3 : Nat) (Option.some Jvm.ClassFile.FieldType.int)) ∈ lw_all := lw_g (lw_at lw_m5 157 rfl) rfl
theorem q1250 : (Jvm.Cond.methodLink "VotingHuts$Wires" (76 : Nat) ({ cls := "VotingHuts$Wires", name := "many", desc := "(Z)I" } : Jvm.MethodName)) ∈ lw_all := lw_g (lw_at lw_m5 158 rfl) rfl
theorem q1251 : (Jvm.Cond.instanceMethod ({ cls := "VotingHuts$Wires", name := "many", desc := "(Z)I" } : Jvm.MethodName)) ∈ lw_all := lw_g (lw_at lw_m5 159 rfl) rfl
theorem q1252 : (Jvm.Cond.selects "VotingHuts$Wires" ({ cls := "VotingHuts$Wires", name := "many", desc := "(Z)I" } : Jvm.MethodName) ({ cls := "VotingHuts$Wires", name := "many", desc := "(Z)I" } : Jvm.MethodName)) ∈ lw_all := lw_g (lw_at lw_m5 160 rfl) rfl
theorem q1253 : (Jvm.Cond.code ({ cls := "VotingHuts$Wires", name := "many", desc := "(Z)I" } : Jvm.MethodName) prog_9_method_16_code (4 : Nat) (Option.some Jvm.ClassFile.FieldType.int)) ∈ lw_all := lw_g (lw_at lw_m5 161 rfl) rfl
theorem q1254 : (Jvm.Cond.methodLink "VotingHuts$Wires" (28 : Nat) ({ cls := "VotingHuts$Wires", name := "size", desc := "()I" } : Jvm.MethodName)) ∈ lw_all := lw_g (lw_at lw_m5 162 rfl) rfl
theorem q1255 : (Jvm.Cond.instanceMethod ({ cls := "VotingHuts$Wires", name := "size", desc := "()I" } : Jvm.MethodName)) ∈ lw_all := lw_g (lw_at lw_m5 163 rfl) rfl
theorem q1256 : (Jvm.Cond.selects "VotingHuts$Wires" ({ cls := "VotingHuts$Wires", name := "size", desc := "()I" } : Jvm.MethodName) ({ cls := "VotingHuts$Wires", name := "size", desc := "()I" } : Jvm.MethodName)) ∈ lw_all := lw_g (lw_at lw_m5 164 rfl) rfl
theorem q1257 : (Jvm.Cond.code ({ cls := "VotingHuts$Wires", name := "size", desc := "()I" } : Jvm.MethodName) prog_9_method_3_code (1 : Nat) (Option.some Jvm.ClassFile.FieldType.int)) ∈ lw_all := lw_g (lw_at lw_m5 165 rfl) rfl
theorem q1258 : (Jvm.Cond.methodLinkNest "VotingHuts$Wires" (72 : Nat) ({ cls := "VotingHuts", name := "flag", desc := "(Z)I" } : Jvm.MethodName) "VotingHuts") ∈ lw_tbl := lw_at lw_m5 166 rfl
theorem q1297 : (Jvm.Cond.instanceMethod ({ cls := "VotingHuts$Wires", name := "carries", desc := "(IIII)I" } : Jvm.MethodName)) ∈ lw_all := lw_g (lw_at lw_m5 205 rfl) rfl
theorem q1298 : (Jvm.Cond.selects "VotingHuts$Wires" ({ cls := "VotingHuts$Wires", name := "carries", desc := "(IIII)I" } : Jvm.MethodName) ({ cls := "VotingHuts$Wires", name := "carries", desc := "(IIII)I" } : Jvm.MethodName)) ∈ lw_all := lw_g (lw_at lw_m5 206 rfl) rfl
theorem q1299 : (Jvm.Cond.code ({ cls := "VotingHuts$Wires", name := "carries", desc := "(IIII)I" } : Jvm.MethodName) prog_9_method_6_code (6 : Nat) (Option.some Jvm.ClassFile.FieldType.int)) ∈ lw_all := lw_g (lw_at lw_m5 207 rfl) rfl
theorem q1300 : (Jvm.Cond.methodLink "VotingHuts$Wires" (55 : Nat) ({ cls := "VotingHuts$Wires", name := "comes", desc := "(IIII)I" } : Jvm.MethodName)) ∈ lw_all := lw_g (lw_at lw_m5 208 rfl) rfl
theorem q1301 : (Jvm.Cond.instanceMethod ({ cls := "VotingHuts$Wires", name := "comes", desc := "(IIII)I" } : Jvm.MethodName)) ∈ lw_all := lw_g (lw_at lw_m5 209 rfl) rfl
theorem q1302 : (Jvm.Cond.selects "VotingHuts$Wires" ({ cls := "VotingHuts$Wires", name := "comes", desc := "(IIII)I" } : Jvm.MethodName) ({ cls := "VotingHuts$Wires", name := "comes", desc := "(IIII)I" } : Jvm.MethodName)) ∈ lw_all := lw_g (lw_at lw_m5 210 rfl) rfl
theorem q1303 : (Jvm.Cond.code ({ cls := "VotingHuts$Wires", name := "comes", desc := "(IIII)I" } : Jvm.MethodName) prog_9_method_5_code (5 : Nat) (Option.some Jvm.ClassFile.FieldType.int)) ∈ lw_all := lw_g (lw_at lw_m5 211 rfl) rfl
theorem q1304 : (Jvm.Cond.methodLink "VotingHuts$Wires" (51 : Nat) ({ cls := "VotingHuts$Wires", name := "garbles", desc := "(III)Z" } : Jvm.MethodName)) ∈ lw_all := lw_g (lw_at lw_m5 212 rfl) rfl
theorem q1305 : (Jvm.Cond.instanceMethod ({ cls := "VotingHuts$Wires", name := "garbles", desc := "(III)Z" } : Jvm.MethodName)) ∈ lw_all := lw_g (lw_at lw_m5 213 rfl) rfl
theorem q1306 : (Jvm.Cond.selects "VotingHuts$Wires" ({ cls := "VotingHuts$Wires", name := "garbles", desc := "(III)Z" } : Jvm.MethodName) ({ cls := "VotingHuts$Wires", name := "garbles", desc := "(III)Z" } : Jvm.MethodName)) ∈ lw_all := lw_g (lw_at lw_m5 214 rfl) rfl
theorem q1307 : (Jvm.Cond.code ({ cls := "VotingHuts$Wires", name := "garbles", desc := "(III)Z" } : Jvm.MethodName) prog_9_method_4_code (4 : Nat) (Option.some Jvm.ClassFile.FieldType.boolean)) ∈ lw_all := lw_g (lw_at lw_m5 215 rfl) rfl
theorem q1415 : (Jvm.Cond.instanceMethod ({ cls := "VotingHuts$Wires", name := "worst", desc := "()I" } : Jvm.MethodName)) ∈ lw_all := lw_g (lw_at lw_m6 83 rfl) rfl
theorem q1416 : (Jvm.Cond.selects "VotingHuts$Wires" ({ cls := "VotingHuts$Wires", name := "worst", desc := "()I" } : Jvm.MethodName) ({ cls := "VotingHuts$Wires", name := "worst", desc := "()I" } : Jvm.MethodName)) ∈ lw_all := lw_g (lw_at lw_m6 84 rfl) rfl
theorem q1417 : (Jvm.Cond.code ({ cls := "VotingHuts$Wires", name := "worst", desc := "()I" } : Jvm.MethodName) prog_9_method_10_code (4 : Nat) (Option.some Jvm.ClassFile.FieldType.int)) ∈ lw_all := lw_g (lw_at lw_m6 85 rfl) rfl
theorem q1426 : (Jvm.Cond.instanceMethod ({ cls := "VotingHuts$Wires", name := "garbling", desc := "(II)I" } : Jvm.MethodName)) ∈ lw_all := lw_g (lw_at lw_m6 94 rfl) rfl
theorem q1427 : (Jvm.Cond.selects "VotingHuts$Wires" ({ cls := "VotingHuts$Wires", name := "garbling", desc := "(II)I" } : Jvm.MethodName) ({ cls := "VotingHuts$Wires", name := "garbling", desc := "(II)I" } : Jvm.MethodName)) ∈ lw_all := lw_g (lw_at lw_m6 95 rfl) rfl
theorem q1428 : (Jvm.Cond.code ({ cls := "VotingHuts$Wires", name := "garbling", desc := "(II)I" } : Jvm.MethodName) prog_9_method_12_code (5 : Nat) (Option.some Jvm.ClassFile.FieldType.int)) ∈ lw_all := lw_g (lw_at lw_m6 96 rfl) rfl
theorem q1438 : (Jvm.Cond.instanceMethod ({ cls := "VotingHuts$Wires", name := "garbled", desc := "(I)I" } : Jvm.MethodName)) ∈ lw_all := lw_g (lw_at lw_m6 106 rfl) rfl
theorem q1439 : (Jvm.Cond.selects "VotingHuts$Wires" ({ cls := "VotingHuts$Wires", name := "garbled", desc := "(I)I" } : Jvm.MethodName) ({ cls := "VotingHuts$Wires", name := "garbled", desc := "(I)I" } : Jvm.MethodName)) ∈ lw_all := lw_g (lw_at lw_m6 107 rfl) rfl
theorem q1440 : (Jvm.Cond.code ({ cls := "VotingHuts$Wires", name := "garbled", desc := "(I)I" } : Jvm.MethodName) prog_9_method_11_code (4 : Nat) (Option.some Jvm.ClassFile.FieldType.int)) ∈ lw_all := lw_g (lw_at lw_m6 108 rfl) rfl
theorem q1441 : (Jvm.Cond.methodLink "VotingHuts$Wires" (68 : Nat) ({ cls := "VotingHuts$Wires", name := "garbling", desc := "(II)I" } : Jvm.MethodName)) ∈ lw_all := lw_g (lw_at lw_m6 109 rfl) rfl
theorem q1625 : (Jvm.Cond.instanceMethod ({ cls := "VotingHuts$Wires", name := "gap", desc := "()I" } : Jvm.MethodName)) ∈ lw_all := lw_g (lw_at lw_m7 53 rfl) rfl
theorem q1626 : (Jvm.Cond.selects "VotingHuts$Wires" ({ cls := "VotingHuts$Wires", name := "gap", desc := "()I" } : Jvm.MethodName) ({ cls := "VotingHuts$Wires", name := "gap", desc := "()I" } : Jvm.MethodName)) ∈ lw_all := lw_g (lw_at lw_m7 54 rfl) rfl
theorem q1627 : (Jvm.Cond.code ({ cls := "VotingHuts$Wires", name := "gap", desc := "()I" } : Jvm.MethodName) prog_9_method_9_code (4 : Nat) (Option.some Jvm.ClassFile.FieldType.int)) ∈ lw_all := lw_g (lw_at lw_m7 55 rfl) rfl
theorem q1628 : (Jvm.Cond.methodLink "VotingHuts$Wires" (62 : Nat) ({ cls := "java/lang/Math", name := "abs", desc := "(I)I" } : Jvm.MethodName)) ∈ lw_all := lw_g (lw_at lw_m7 56 rfl) rfl
theorem q1727 : (Jvm.Cond.instanceMethod ({ cls := "VotingHuts$Wires", name := "<init>", desc := "(LVotingHuts$Wires;)V" } : Jvm.MethodName)) ∈ lw_all := lw_g (lw_at lw_m7 155 rfl) rfl
theorem q1728 : (Jvm.Cond.code ({ cls := "VotingHuts$Wires", name := "<init>", desc := "(LVotingHuts$Wires;)V" } : Jvm.MethodName) prog_9_method_2_code (2 : Nat) (Option.none : Option Jvm.ClassFile.FieldType)) ∈ lw_all := lw_g (lw_at lw_m7 156 rfl) rfl
theorem q1729 : (Jvm.Cond.methodLink "VotingHuts$Wires" (32 : Nat) ({ cls := "VotingHuts$Wires", name := "<init>", desc := "(I)V" } : Jvm.MethodName)) ∈ lw_all := lw_g (lw_at lw_m7 157 rfl) rfl
theorem q1730 : (Jvm.Cond.methodLink "VotingHuts$Wires" (35 : Nat) ({ cls := "java/lang/System", name := "arraycopy", desc := "(Ljava/lang/Object;ILjava/lang/Object;II)V" } : Jvm.MethodName)) ∈ lw_all := lw_g (lw_at lw_m7 158 rfl) rfl
theorem q1787 : (Jvm.Cond.instanceMethod ({ cls := "VotingHuts$Wires", name := "with", desc := "(III)LVotingHuts$Wires;" } : Jvm.MethodName)) ∈ lw_all := lw_g (lw_at lw_m7 215 rfl) rfl
theorem q1788 : (Jvm.Cond.selects "VotingHuts$Wires" ({ cls := "VotingHuts$Wires", name := "with", desc := "(III)LVotingHuts$Wires;" } : Jvm.MethodName) ({ cls := "VotingHuts$Wires", name := "with", desc := "(III)LVotingHuts$Wires;" } : Jvm.MethodName)) ∈ lw_all := lw_g (lw_at lw_m7 216 rfl) rfl
theorem q1789 : (Jvm.Cond.code ({ cls := "VotingHuts$Wires", name := "with", desc := "(III)LVotingHuts$Wires;" } : Jvm.MethodName) prog_9_method_7_code (5 : Nat) (Option.some (Jvm.ClassFile.FieldType.object "VotingHuts$Wires"))) ∈ lw_all := lw_g (lw_at lw_m7 217 rfl) rfl
theorem q1790 : (Jvm.Cond.classLink "VotingHuts$Wires" (10 : Nat) "VotingHuts$Wires") ∈ lw_all := lw_g (lw_at lw_m7 218 rfl) rfl
theorem q1791 : (Jvm.Cond.methodLink "VotingHuts$Wires" (59 : Nat) ({ cls := "VotingHuts$Wires", name := "<init>", desc := "(LVotingHuts$Wires;)V" } : Jvm.MethodName)) ∈ lw_all := lw_g (lw_at lw_m7 219 rfl) rfl
theorem q1808 : (Jvm.Cond.instanceMethod ({ cls := "VotingHuts$Wires", name := "without", desc := "(I)LVotingHuts$Wires;" } : Jvm.MethodName)) ∈ lw_all := lw_g (lw_at lw_m7 236 rfl) rfl
theorem q1809 : (Jvm.Cond.selects "VotingHuts$Wires" ({ cls := "VotingHuts$Wires", name := "without", desc := "(I)LVotingHuts$Wires;" } : Jvm.MethodName) ({ cls := "VotingHuts$Wires", name := "without", desc := "(I)LVotingHuts$Wires;" } : Jvm.MethodName)) ∈ lw_all := lw_g (lw_at lw_m7 237 rfl) rfl
theorem q1810 : (Jvm.Cond.code ({ cls := "VotingHuts$Wires", name := "without", desc := "(I)LVotingHuts$Wires;" } : Jvm.MethodName) prog_9_method_8_code (3 : Nat) (Option.some (Jvm.ClassFile.FieldType.object "VotingHuts$Wires"))) ∈ lw_all := lw_g (lw_at lw_m7 238 rfl) rfl
theorem q2091 : (Jvm.Cond.instanceMethod ({ cls := "VotingHuts$Wires", name := "mends", desc := "()I" } : Jvm.MethodName)) ∈ lw_all := lw_g (lw_at lw_m9 39 rfl) rfl
theorem q2092 : (Jvm.Cond.selects "VotingHuts$Wires" ({ cls := "VotingHuts$Wires", name := "mends", desc := "()I" } : Jvm.MethodName) ({ cls := "VotingHuts$Wires", name := "mends", desc := "()I" } : Jvm.MethodName)) ∈ lw_all := lw_g (lw_at lw_m9 40 rfl) rfl
theorem q2093 : (Jvm.Cond.code ({ cls := "VotingHuts$Wires", name := "mends", desc := "()I" } : Jvm.MethodName) prog_9_method_14_code (3 : Nat) (Option.some Jvm.ClassFile.FieldType.int)) ∈ lw_all := lw_g (lw_at lw_m9 41 rfl) rfl
theorem q2102 : (Jvm.Cond.instanceMethod ({ cls := "VotingHuts$Wires", name := "turns", desc := "(I)I" } : Jvm.MethodName)) ∈ lw_all := lw_g (lw_at lw_m9 50 rfl) rfl
theorem q2103 : (Jvm.Cond.selects "VotingHuts$Wires" ({ cls := "VotingHuts$Wires", name := "turns", desc := "(I)I" } : Jvm.MethodName) ({ cls := "VotingHuts$Wires", name := "turns", desc := "(I)I" } : Jvm.MethodName)) ∈ lw_all := lw_g (lw_at lw_m9 51 rfl) rfl
theorem q2104 : (Jvm.Cond.code ({ cls := "VotingHuts$Wires", name := "turns", desc := "(I)I" } : Jvm.MethodName) prog_9_method_15_code (7 : Nat) (Option.some Jvm.ClassFile.FieldType.int)) ∈ lw_all := lw_g (lw_at lw_m9 52 rfl) rfl
theorem q2933 : (Jvm.Cond.castable "VotingHuts$Wires" "java/lang/Object") ∈ lw_tbl := lw_at lw_m12 161 rfl
theorem in_X6 : ∀ w ∈ wsX60, w ∈ lw_all := lw_in wsX60 [822, 824, 826, 828, 830, 832, 834, 836] (by decide +kernel) (by decide +kernel)
/-! VotingHuts$Kept -/
set_option maxRecDepth 100000
def RX7 : String := "VotingHuts$Kept"
def TX7 : u_T := fun k => match k with
  | 0 => ("VotingHuts$Kept", "all", "Ljava/util/List;", true)
  | _ => ("VotingHuts$Kept", "most", "I", true)
def tyX7 : Nat → FieldType := fun k => match k with
  | 0 => .object "java/util/List"
  | _ => .int
abbrev wsX70 : List Cond := u_ws RX7 TX7 2
theorem nmX7 : ∀ a, a < 2 → ∀ b, b < 2 → a ≠ b → (TX7 a).2.1 ≠ (TX7 b).2.1 := by decide +kernel
theorem tyX7_ok : ∀ k, k < 2 → parseFieldDescriptor (TX7 k).2.2.1 = some (tyX7 k) := by decide +kernel
abbrev cX7_init : ByteArray := prog_4_method_1_code
def yX7_init : MethodName := ⟨RX7, "<init>", "(I)V"⟩
def dkwX7_init_0 : List UInt8 := [42, 183, 0, 1, 42, 187, 0, 7, 89, 183, 0, 9, 181, 0, 10, 42, 27, 181, 0, 16, 177]
abbrev dktX7_init_0 : List UInt8 := dkwX7_init_0 ++ []
theorem dksX7_init_0 : cX7_init.data.toList.drop 0 = dktX7_init_0 := by decide +kernel
theorem dX7_init_0 : decode cX7_init 0 = .ok (.aload_n 0, 1) := dk_42 (dk_at dksX7_init_0 0 rfl rfl)
theorem dX7_init_1 : decode cX7_init 1 = .ok (.invokespecial 1, 3) := dk_183 0 1 (dk_at dksX7_init_0 1 rfl rfl)
theorem dX7_init_4 : decode cX7_init 4 = .ok (.aload_n 0, 1) := dk_42 (dk_at dksX7_init_0 4 rfl rfl)
theorem dX7_init_5 : decode cX7_init 5 = .ok (.new 7, 3) := dk_187 0 7 (dk_at dksX7_init_0 5 rfl rfl)
theorem dX7_init_8 : decode cX7_init 8 = .ok (.dup, 1) := dk_89 (dk_at dksX7_init_0 8 rfl rfl)
theorem dX7_init_9 : decode cX7_init 9 = .ok (.invokespecial 9, 3) := dk_183 0 9 (dk_at dksX7_init_0 9 rfl rfl)
theorem dX7_init_12 : decode cX7_init 12 = .ok (.putfield 10, 3) := dk_181 0 10 (dk_at dksX7_init_0 12 rfl rfl)
theorem dX7_init_15 : decode cX7_init 15 = .ok (.aload_n 0, 1) := dk_42 (dk_at dksX7_init_0 15 rfl rfl)
theorem dX7_init_16 : decode cX7_init 16 = .ok (.iload_n 1, 1) := dk_27 (dk_at dksX7_init_0 16 rfl rfl)
theorem dX7_init_17 : decode cX7_init 17 = .ok (.putfield 16, 3) := dk_181 0 16 (dk_at dksX7_init_0 17 rfl rfl)
theorem dX7_init_20 : decode cX7_init 20 = .ok (.return_, 1) := dk_177 (dk_at dksX7_init_0 20 rfl rfl)
abbrev cX7_adds : ByteArray := prog_4_method_3_code
def yX7_adds : MethodName := ⟨RX7, "adds", "(LVotingHuts$Told;)V"⟩
def dkwX7_adds_1 : List UInt8 := [185, 0, 35, 2, 0, 192, 0, 39, 77, 42, 180, 0, 10, 43, 185, 0, 41, 2, 0, 61, 177]
abbrev dktX7_adds_1 : List UInt8 := dkwX7_adds_1 ++ []
def dkwX7_adds_0 : List UInt8 := [42, 180, 0, 10, 185, 0, 29, 1, 0, 42, 180, 0, 16, 160, 0, 17, 42, 180, 0, 10, 3]
abbrev dktX7_adds_0 : List UInt8 := dkwX7_adds_0 ++ dktX7_adds_1
theorem dksX7_adds_0 : cX7_adds.data.toList.drop 0 = dktX7_adds_0 := by decide +kernel
theorem dksX7_adds_1 : cX7_adds.data.toList.drop 21 = dktX7_adds_1 := dk_seg dksX7_adds_0 21 rfl rfl
theorem dX7_adds_0 : decode cX7_adds 0 = .ok (.aload_n 0, 1) := dk_42 (dk_at dksX7_adds_0 0 rfl rfl)
theorem dX7_adds_1 : decode cX7_adds 1 = .ok (.getfield 10, 3) := dk_180 0 10 (dk_at dksX7_adds_0 1 rfl rfl)
theorem dX7_adds_4 : decode cX7_adds 4 = .ok (.invokeinterface 29 1, 5) := by decide +kernel
theorem dX7_adds_9 : decode cX7_adds 9 = .ok (.aload_n 0, 1) := dk_42 (dk_at dksX7_adds_0 9 rfl rfl)
theorem dX7_adds_10 : decode cX7_adds 10 = .ok (.getfield 16, 3) := dk_180 0 16 (dk_at dksX7_adds_0 10 rfl rfl)
theorem dX7_adds_13 : decode cX7_adds 13 = .ok (.if_icmp .ne 17, 3) := dk_160 0 17 (dk_at dksX7_adds_0 13 rfl rfl)
theorem dX7_adds_16 : decode cX7_adds 16 = .ok (.aload_n 0, 1) := dk_42 (dk_at dksX7_adds_0 16 rfl rfl)
theorem dX7_adds_17 : decode cX7_adds 17 = .ok (.getfield 10, 3) := dk_180 0 10 (dk_at dksX7_adds_0 17 rfl rfl)
theorem dX7_adds_20 : decode cX7_adds 20 = .ok (.iconst 0, 1) := dk_3 (dk_at dksX7_adds_0 20 rfl rfl)
theorem dX7_adds_21 : decode cX7_adds 21 = .ok (.invokeinterface 35 2, 5) := by decide +kernel
theorem dX7_adds_26 : decode cX7_adds 26 = .ok (.checkcast 39, 3) := dk_192 0 39 (dk_at dksX7_adds_1 5 rfl rfl)
theorem dX7_adds_29 : decode cX7_adds 29 = .ok (.astore_n 2, 1) := dk_77 (dk_at dksX7_adds_1 8 rfl rfl)
theorem dX7_adds_30 : decode cX7_adds 30 = .ok (.aload_n 0, 1) := dk_42 (dk_at dksX7_adds_1 9 rfl rfl)
theorem dX7_adds_31 : decode cX7_adds 31 = .ok (.getfield 10, 3) := dk_180 0 10 (dk_at dksX7_adds_1 10 rfl rfl)
theorem dX7_adds_34 : decode cX7_adds 34 = .ok (.aload_n 1, 1) := dk_43 (dk_at dksX7_adds_1 13 rfl rfl)
theorem dX7_adds_35 : decode cX7_adds 35 = .ok (.invokeinterface 41 2, 5) := by decide +kernel
theorem dX7_adds_40 : decode cX7_adds 40 = .ok (.istore_n 2, 1) := dk_61 (dk_at dksX7_adds_1 19 rfl rfl)
theorem dX7_adds_41 : decode cX7_adds 41 = .ok (.return_, 1) := dk_177 (dk_at dksX7_adds_1 20 rfl rfl)
abbrev cX7_drops : ByteArray := prog_4_method_4_code
def yX7_drops : MethodName := ⟨RX7, "drops", "(I)V"⟩
def dkwX7_drops_2 : List UInt8 := [45, 27, 185, 0, 49, 2, 0, 192, 0, 39, 185, 0, 52, 3, 0, 132, 2, 255, 167, 255, 205, 177]
abbrev dktX7_drops_2 : List UInt8 := dkwX7_drops_2 ++ []
def dkwX7_drops_1 : List UInt8 := [185, 0, 35, 2, 0, 192, 0, 39, 78, 45, 27, 185, 0, 45, 2, 0, 154, 0, 23, 42, 180, 0, 10, 28]
abbrev dktX7_drops_1 : List UInt8 := dkwX7_drops_1 ++ dktX7_drops_2
def dkwX7_drops_0 : List UInt8 := [42, 180, 0, 10, 185, 0, 29, 1, 0, 4, 100, 61, 28, 155, 0, 53, 42, 180, 0, 10, 28]
abbrev dktX7_drops_0 : List UInt8 := dkwX7_drops_0 ++ dktX7_drops_1
theorem dksX7_drops_0 : cX7_drops.data.toList.drop 0 = dktX7_drops_0 := by decide +kernel
theorem dksX7_drops_1 : cX7_drops.data.toList.drop 21 = dktX7_drops_1 := dk_seg dksX7_drops_0 21 rfl rfl
theorem dksX7_drops_2 : cX7_drops.data.toList.drop 45 = dktX7_drops_2 := dk_seg dksX7_drops_1 24 rfl rfl
theorem dX7_drops_0 : decode cX7_drops 0 = .ok (.aload_n 0, 1) := dk_42 (dk_at dksX7_drops_0 0 rfl rfl)
theorem dX7_drops_1 : decode cX7_drops 1 = .ok (.getfield 10, 3) := dk_180 0 10 (dk_at dksX7_drops_0 1 rfl rfl)
theorem dX7_drops_4 : decode cX7_drops 4 = .ok (.invokeinterface 29 1, 5) := by decide +kernel
theorem dX7_drops_9 : decode cX7_drops 9 = .ok (.iconst 1, 1) := dk_4 (dk_at dksX7_drops_0 9 rfl rfl)
theorem dX7_drops_10 : decode cX7_drops 10 = .ok (.isub, 1) := dk_100 (dk_at dksX7_drops_0 10 rfl rfl)
theorem dX7_drops_11 : decode cX7_drops 11 = .ok (.istore_n 2, 1) := dk_61 (dk_at dksX7_drops_0 11 rfl rfl)
theorem dX7_drops_12 : decode cX7_drops 12 = .ok (.iload_n 2, 1) := dk_28 (dk_at dksX7_drops_0 12 rfl rfl)
theorem dX7_drops_13 : decode cX7_drops 13 = .ok (.ifCond .lt 53, 3) := dk_155 0 53 (dk_at dksX7_drops_0 13 rfl rfl)
theorem dX7_drops_16 : decode cX7_drops 16 = .ok (.aload_n 0, 1) := dk_42 (dk_at dksX7_drops_0 16 rfl rfl)
theorem dX7_drops_17 : decode cX7_drops 17 = .ok (.getfield 10, 3) := dk_180 0 10 (dk_at dksX7_drops_0 17 rfl rfl)
theorem dX7_drops_20 : decode cX7_drops 20 = .ok (.iload_n 2, 1) := dk_28 (dk_at dksX7_drops_0 20 rfl rfl)
theorem dX7_drops_21 : decode cX7_drops 21 = .ok (.invokeinterface 35 2, 5) := by decide +kernel
theorem dX7_drops_26 : decode cX7_drops 26 = .ok (.checkcast 39, 3) := dk_192 0 39 (dk_at dksX7_drops_1 5 rfl rfl)
theorem dX7_drops_29 : decode cX7_drops 29 = .ok (.astore_n 3, 1) := dk_78 (dk_at dksX7_drops_1 8 rfl rfl)
theorem dX7_drops_30 : decode cX7_drops 30 = .ok (.aload_n 3, 1) := dk_45 (dk_at dksX7_drops_1 9 rfl rfl)
theorem dX7_drops_31 : decode cX7_drops 31 = .ok (.iload_n 1, 1) := dk_27 (dk_at dksX7_drops_1 10 rfl rfl)
theorem dX7_drops_32 : decode cX7_drops 32 = .ok (.invokeinterface 45 2, 5) := by decide +kernel
theorem dX7_drops_37 : decode cX7_drops 37 = .ok (.ifCond .ne 23, 3) := dk_154 0 23 (dk_at dksX7_drops_1 16 rfl rfl)
theorem dX7_drops_40 : decode cX7_drops 40 = .ok (.aload_n 0, 1) := dk_42 (dk_at dksX7_drops_1 19 rfl rfl)
theorem dX7_drops_41 : decode cX7_drops 41 = .ok (.getfield 10, 3) := dk_180 0 10 (dk_at dksX7_drops_1 20 rfl rfl)
theorem dX7_drops_44 : decode cX7_drops 44 = .ok (.iload_n 2, 1) := dk_28 (dk_at dksX7_drops_1 23 rfl rfl)
theorem dX7_drops_45 : decode cX7_drops 45 = .ok (.aload_n 3, 1) := dk_45 (dk_at dksX7_drops_2 0 rfl rfl)
theorem dX7_drops_46 : decode cX7_drops 46 = .ok (.iload_n 1, 1) := dk_27 (dk_at dksX7_drops_2 1 rfl rfl)
theorem dX7_drops_47 : decode cX7_drops 47 = .ok (.invokeinterface 49 2, 5) := by decide +kernel
theorem dX7_drops_52 : decode cX7_drops 52 = .ok (.checkcast 39, 3) := dk_192 0 39 (dk_at dksX7_drops_2 7 rfl rfl)
theorem dX7_drops_55 : decode cX7_drops 55 = .ok (.invokeinterface 52 3, 5) := by decide +kernel
theorem dX7_drops_60 : decode cX7_drops 60 = .ok (.iinc 2 (-1), 3) := dk_132 2 255 (dk_at dksX7_drops_2 15 rfl rfl)
theorem dX7_drops_63 : decode cX7_drops 63 = .ok (.goto (-51), 3) := dk_167 255 205 (dk_at dksX7_drops_2 18 rfl rfl)
theorem dX7_drops_66 : decode cX7_drops 66 = .ok (.return_, 1) := dk_177 (dk_at dksX7_drops_2 21 rfl rfl)
abbrev cX7_init_2 : ByteArray := prog_4_method_2_code
def yX7_init_2 : MethodName := ⟨RX7, "<init>", "(LVotingHuts$Kept;)V"⟩
def dkwX7_init_2_0 : List UInt8 := [42, 43, 180, 0, 16, 183, 0, 20, 43, 180, 0, 10, 42, 180, 0, 10, 184, 0, 23, 177]
abbrev dktX7_init_2_0 : List UInt8 := dkwX7_init_2_0 ++ []
theorem dksX7_init_2_0 : cX7_init_2.data.toList.drop 0 = dktX7_init_2_0 := by decide +kernel
theorem dX7_init_2_0 : decode cX7_init_2 0 = .ok (.aload_n 0, 1) := dk_42 (dk_at dksX7_init_2_0 0 rfl rfl)
theorem dX7_init_2_1 : decode cX7_init_2 1 = .ok (.aload_n 1, 1) := dk_43 (dk_at dksX7_init_2_0 1 rfl rfl)
theorem dX7_init_2_2 : decode cX7_init_2 2 = .ok (.getfield 16, 3) := dk_180 0 16 (dk_at dksX7_init_2_0 2 rfl rfl)
theorem dX7_init_2_5 : decode cX7_init_2 5 = .ok (.invokespecial 20, 3) := dk_183 0 20 (dk_at dksX7_init_2_0 5 rfl rfl)
theorem dX7_init_2_8 : decode cX7_init_2 8 = .ok (.aload_n 1, 1) := dk_43 (dk_at dksX7_init_2_0 8 rfl rfl)
theorem dX7_init_2_9 : decode cX7_init_2 9 = .ok (.getfield 10, 3) := dk_180 0 10 (dk_at dksX7_init_2_0 9 rfl rfl)
theorem dX7_init_2_12 : decode cX7_init_2 12 = .ok (.aload_n 0, 1) := dk_42 (dk_at dksX7_init_2_0 12 rfl rfl)
theorem dX7_init_2_13 : decode cX7_init_2 13 = .ok (.getfield 10, 3) := dk_180 0 10 (dk_at dksX7_init_2_0 13 rfl rfl)
theorem dX7_init_2_16 : decode cX7_init_2 16 = .ok (.invokestatic 23, 3) := dk_184 0 23 (dk_at dksX7_init_2_0 16 rfl rfl)
theorem dX7_init_2_19 : decode cX7_init_2 19 = .ok (.return_, 1) := dk_177 (dk_at dksX7_init_2_0 19 rfl rfl)
theorem q163 : (Jvm.Cond.initialized "VotingHuts$Kept") ∈ lw_all := lw_g (lw_at lw_m1 31 rfl) rfl
theorem q841 : (Jvm.Cond.instantiable "VotingHuts$Kept" (2 : Nat)) ∈ lw_all := lw_g (lw_at lw_m3 229 rfl) rfl
theorem q843 : (Jvm.Cond.instanceMethod ({ cls := "VotingHuts$Kept", name := "<init>", desc := "(I)V" } : Jvm.MethodName)) ∈ lw_all := lw_g (lw_at lw_m3 231 rfl) rfl
theorem q844 : (Jvm.Cond.code ({ cls := "VotingHuts$Kept", name := "<init>", desc := "(I)V" } : Jvm.MethodName) prog_4_method_1_code (2 : Nat) (Option.none : Option Jvm.ClassFile.FieldType)) ∈ lw_all := lw_g (lw_at lw_m3 232 rfl) rfl
theorem q845 : (Jvm.Cond.methodLink "VotingHuts$Kept" (1 : Nat) ({ cls := "java/lang/Object", name := "<init>", desc := "()V" } : Jvm.MethodName)) ∈ lw_all := lw_g (lw_at lw_m3 233 rfl) rfl
theorem q846 : (Jvm.Cond.classLink "VotingHuts$Kept" (7 : Nat) "java/util/ArrayList") ∈ lw_all := lw_g (lw_at lw_m3 234 rfl) rfl
theorem q847 : (Jvm.Cond.methodLink "VotingHuts$Kept" (9 : Nat) ({ cls := "java/util/ArrayList", name := "<init>", desc := "()V" } : Jvm.MethodName)) ∈ lw_all := lw_g (lw_at lw_m3 235 rfl) rfl
theorem q852 : (Jvm.Cond.fieldLink "VotingHuts$Kept" (10 : Nat) "VotingHuts$Kept" "all" "Ljava/util/List;") ∈ lw_all := lw_g (lw_at lw_m4 0 rfl) rfl
theorem q854 : (Jvm.Cond.fieldLink "VotingHuts$Kept" (16 : Nat) "VotingHuts$Kept" "most" "I") ∈ lw_all := lw_g (lw_at lw_m4 2 rfl) rfl
theorem q855 : (Jvm.Cond.laysFinal "VotingHuts$Kept" "VotingHuts$Kept" "all" "Ljava/util/List;") ∈ lw_all := lw_g (lw_at lw_m4 3 rfl) rfl
theorem q856 : (Jvm.Cond.soleField "VotingHuts$Kept" "all") ∈ lw_all := lw_g (lw_at lw_m4 4 rfl) rfl
theorem q857 : (Jvm.Cond.laysFinal "VotingHuts$Kept" "VotingHuts$Kept" "most" "I") ∈ lw_all := lw_g (lw_at lw_m4 5 rfl) rfl
theorem q858 : (Jvm.Cond.soleField "VotingHuts$Kept" "most") ∈ lw_all := lw_g (lw_at lw_m4 6 rfl) rfl
theorem q859 : (Jvm.Cond.superclass "VotingHuts$Kept" "java/lang/Object") ∈ lw_all := lw_g (lw_at lw_m4 7 rfl) rfl
theorem q1077 : (Jvm.Cond.selects "VotingHuts$Kept" ({ cls := "java/lang/Object", name := "getClass", desc := "()Ljava/lang/Class;" } : Jvm.MethodName) ({ cls := "java/lang/Object", name := "getClass", desc := "()Ljava/lang/Class;" } : Jvm.MethodName)) ∈ lw_all := lw_g (lw_at lw_m4 225 rfl) rfl
theorem q1152 : (Jvm.Cond.instanceMethod ({ cls := "VotingHuts$Kept", name := "adds", desc := "(LVotingHuts$Told;)V" } : Jvm.MethodName)) ∈ lw_all := lw_g (lw_at lw_m5 60 rfl) rfl
theorem q1153 : (Jvm.Cond.selects "VotingHuts$Kept" ({ cls := "VotingHuts$Kept", name := "adds", desc := "(LVotingHuts$Told;)V" } : Jvm.MethodName) ({ cls := "VotingHuts$Kept", name := "adds", desc := "(LVotingHuts$Told;)V" } : Jvm.MethodName)) ∈ lw_all := lw_g (lw_at lw_m5 61 rfl) rfl
theorem q1154 : (Jvm.Cond.code ({ cls := "VotingHuts$Kept", name := "adds", desc := "(LVotingHuts$Told;)V" } : Jvm.MethodName) prog_4_method_3_code (3 : Nat) (Option.none : Option Jvm.ClassFile.FieldType)) ∈ lw_all := lw_g (lw_at lw_m5 62 rfl) rfl
theorem q1155 : (Jvm.Cond.interfaceEntry "VotingHuts$Kept" (29 : Nat)) ∈ lw_tbl := lw_at lw_m5 63 rfl
theorem q1156 : (Jvm.Cond.methodLink "VotingHuts$Kept" (29 : Nat) ({ cls := "java/util/List", name := "size", desc := "()I" } : Jvm.MethodName)) ∈ lw_all := lw_g (lw_at lw_m5 64 rfl) rfl
theorem q1157 : (Jvm.Cond.interfaceEntry "VotingHuts$Kept" (35 : Nat)) ∈ lw_tbl := lw_at lw_m5 65 rfl
theorem q1158 : (Jvm.Cond.methodLink "VotingHuts$Kept" (35 : Nat) ({ cls := "java/util/List", name := "remove", desc := "(I)Ljava/lang/Object;" } : Jvm.MethodName)) ∈ lw_all := lw_g (lw_at lw_m5 66 rfl) rfl
theorem q1171 : (Jvm.Cond.classLink "VotingHuts$Kept" (39 : Nat) "VotingHuts$Told") ∈ lw_all := lw_g (lw_at lw_m5 79 rfl) rfl
theorem q1172 : (Jvm.Cond.interfaceEntry "VotingHuts$Kept" (41 : Nat)) ∈ lw_tbl := lw_at lw_m5 80 rfl
theorem q1173 : (Jvm.Cond.methodLink "VotingHuts$Kept" (41 : Nat) ({ cls := "java/util/List", name := "add", desc := "(Ljava/lang/Object;)Z" } : Jvm.MethodName)) ∈ lw_all := lw_g (lw_at lw_m5 81 rfl) rfl
theorem q1197 : (Jvm.Cond.instanceMethod ({ cls := "VotingHuts$Kept", name := "drops", desc := "(I)V" } : Jvm.MethodName)) ∈ lw_all := lw_g (lw_at lw_m5 105 rfl) rfl
theorem q1198 : (Jvm.Cond.selects "VotingHuts$Kept" ({ cls := "VotingHuts$Kept", name := "drops", desc := "(I)V" } : Jvm.MethodName) ({ cls := "VotingHuts$Kept", name := "drops", desc := "(I)V" } : Jvm.MethodName)) ∈ lw_all := lw_g (lw_at lw_m5 106 rfl) rfl
theorem q1199 : (Jvm.Cond.code ({ cls := "VotingHuts$Kept", name := "drops", desc := "(I)V" } : Jvm.MethodName) prog_4_method_4_code (4 : Nat) (Option.none : Option Jvm.ClassFile.FieldType)) ∈ lw_all := lw_g (lw_at lw_m5 107 rfl) rfl
theorem q1200 : (Jvm.Cond.interfaceEntry "VotingHuts$Kept" (45 : Nat)) ∈ lw_tbl := lw_at lw_m5 108 rfl
theorem q1201 : (Jvm.Cond.methodLink "VotingHuts$Kept" (45 : Nat) ({ cls := "VotingHuts$Told", name := "isOf", desc := "(I)Z" } : Jvm.MethodName)) ∈ lw_all := lw_g (lw_at lw_m5 109 rfl) rfl
theorem q1210 : (Jvm.Cond.interfaceEntry "VotingHuts$Kept" (49 : Nat)) ∈ lw_tbl := lw_at lw_m5 118 rfl
theorem q1211 : (Jvm.Cond.methodLink "VotingHuts$Kept" (49 : Nat) ({ cls := "VotingHuts$Told", name := "behind", desc := "(I)Ljava/lang/Object;" } : Jvm.MethodName)) ∈ lw_all := lw_g (lw_at lw_m5 119 rfl) rfl
theorem q1225 : (Jvm.Cond.interfaceEntry "VotingHuts$Kept" (52 : Nat)) ∈ lw_tbl := lw_at lw_m5 133 rfl
theorem q1226 : (Jvm.Cond.methodLink "VotingHuts$Kept" (52 : Nat) ({ cls := "java/util/List", name := "add", desc := "(ILjava/lang/Object;)V" } : Jvm.MethodName)) ∈ lw_all := lw_g (lw_at lw_m5 134 rfl) rfl
theorem q1758 : (Jvm.Cond.instanceMethod ({ cls := "VotingHuts$Kept", name := "<init>", desc := "(LVotingHuts$Kept;)V" } : Jvm.MethodName)) ∈ lw_all := lw_g (lw_at lw_m7 186 rfl) rfl
theorem q1759 : (Jvm.Cond.code ({ cls := "VotingHuts$Kept", name := "<init>", desc := "(LVotingHuts$Kept;)V" } : Jvm.MethodName) prog_4_method_2_code (2 : Nat) (Option.none : Option Jvm.ClassFile.FieldType)) ∈ lw_all := lw_g (lw_at lw_m7 187 rfl) rfl
theorem q1760 : (Jvm.Cond.methodLink "VotingHuts$Kept" (20 : Nat) ({ cls := "VotingHuts$Kept", name := "<init>", desc := "(I)V" } : Jvm.MethodName)) ∈ lw_all := lw_g (lw_at lw_m7 188 rfl) rfl
theorem q1761 : (Jvm.Cond.methodLinkNest "VotingHuts$Kept" (23 : Nat) ({ cls := "VotingHuts", name := "copies", desc := "(Ljava/util/List;Ljava/util/List;)V" } : Jvm.MethodName) "VotingHuts") ∈ lw_tbl := lw_at lw_m7 189 rfl
theorem q2934 : (Jvm.Cond.castable "VotingHuts$Kept" "java/lang/Object") ∈ lw_tbl := lw_at lw_m12 162 rfl
theorem in_X7 : ∀ w ∈ wsX70, w ∈ lw_all := lw_in wsX70 [855, 857] (by decide +kernel) (by decide +kernel)
/-! VotingHuts$Message -/
set_option maxRecDepth 100000
def RX8 : String := "VotingHuts$Message"
def TX8 : u_T := fun k => match k with
  | 0 => ("VotingHuts$Message", "digits", "[I", true)
  | 1 => ("VotingHuts$Message", "has", "[[I", true)
  | 2 => ("VotingHuts$Message", "before", "[[I", true)
  | 3 => ("VotingHuts$Message", "copies", "[[I", true)
  | 4 => ("VotingHuts$Message", "hourSent", "I", true)
  | 5 => ("VotingHuts$Message", "level", "I", false)
  | 6 => ("VotingHuts$Message", "asked", "I", false)
  | _ => ("VotingHuts$Message", "arrived", "I", false)
def tyX8 : Nat → FieldType := fun k => match k with
  | 0 => .array .int
  | 1 => .array (.array .int)
  | 2 => .array (.array .int)
  | 3 => .array (.array .int)
  | 4 => .int
  | 5 => .int
  | 6 => .int
  | _ => .int
abbrev wsX80 : List Cond := u_ws RX8 TX8 8
theorem nmX8 : ∀ a, a < 8 → ∀ b, b < 8 → a ≠ b → (TX8 a).2.1 ≠ (TX8 b).2.1 := by decide +kernel
theorem tyX8_ok : ∀ k, k < 8 → parseFieldDescriptor (TX8 k).2.2.1 = some (tyX8 k) := by decide +kernel
abbrev cX8_init : ByteArray := prog_5_method_2_code
def yX8_init : MethodName := ⟨RX8, "<init>", "(I[I)V"⟩
def dkwX8_init_4 : List UInt8 := [132, 7, 1, 167, 255, 238, 132, 5, 1, 167, 255, 216, 177]
abbrev dktX8_init_4 : List UInt8 := dkwX8_init_4 ++ []
def dkwX8_init_3 : List UInt8 := [21, 5, 50, 58, 6, 3, 54, 7, 21, 7, 25, 6, 190, 162, 0, 16, 25, 6, 21, 7, 16, 254, 79]
abbrev dktX8_init_3 : List UInt8 := dkwX8_init_3 ++ dktX8_init_4
def dkwX8_init_2 : List UInt8 := [167, 255, 230, 42, 180, 0, 30, 78, 45, 190, 54, 4, 3, 54, 5, 21, 5, 21, 4, 162, 0, 39, 45]
abbrev dktX8_init_2 : List UInt8 := dkwX8_init_2 ++ dktX8_init_3
def dkwX8_init_1 : List UInt8 := [162, 0, 25, 45, 21, 5, 50, 58, 6, 44, 3, 25, 6, 3, 44, 190, 184, 0, 36, 132, 5, 1]
abbrev dktX8_init_1 : List UInt8 := dkwX8_init_1 ++ dktX8_init_2
def dkwX8_init_0 : List UInt8 := [42, 27, 44, 6, 183, 0, 33, 42, 180, 0, 24, 78, 45, 190, 54, 4, 3, 54, 5, 21, 5, 21, 4]
abbrev dktX8_init_0 : List UInt8 := dkwX8_init_0 ++ dktX8_init_1
theorem dksX8_init_0 : cX8_init.data.toList.drop 0 = dktX8_init_0 := by decide +kernel
theorem dksX8_init_1 : cX8_init.data.toList.drop 23 = dktX8_init_1 := dk_seg dksX8_init_0 23 rfl rfl
theorem dksX8_init_2 : cX8_init.data.toList.drop 45 = dktX8_init_2 := dk_seg dksX8_init_1 22 rfl rfl
theorem dksX8_init_3 : cX8_init.data.toList.drop 68 = dktX8_init_3 := dk_seg dksX8_init_2 23 rfl rfl
theorem dksX8_init_4 : cX8_init.data.toList.drop 91 = dktX8_init_4 := dk_seg dksX8_init_3 23 rfl rfl
theorem dX8_init_0 : decode cX8_init 0 = .ok (.aload_n 0, 1) := dk_42 (dk_at dksX8_init_0 0 rfl rfl)
theorem dX8_init_1 : decode cX8_init 1 = .ok (.iload_n 1, 1) := dk_27 (dk_at dksX8_init_0 1 rfl rfl)
theorem dX8_init_2 : decode cX8_init 2 = .ok (.aload_n 2, 1) := dk_44 (dk_at dksX8_init_0 2 rfl rfl)
theorem dX8_init_3 : decode cX8_init 3 = .ok (.iconst 3, 1) := dk_6 (dk_at dksX8_init_0 3 rfl rfl)
theorem dX8_init_4 : decode cX8_init 4 = .ok (.invokespecial 33, 3) := dk_183 0 33 (dk_at dksX8_init_0 4 rfl rfl)
theorem dX8_init_7 : decode cX8_init 7 = .ok (.aload_n 0, 1) := dk_42 (dk_at dksX8_init_0 7 rfl rfl)
theorem dX8_init_8 : decode cX8_init 8 = .ok (.getfield 24, 3) := dk_180 0 24 (dk_at dksX8_init_0 8 rfl rfl)
theorem dX8_init_11 : decode cX8_init 11 = .ok (.astore_n 3, 1) := dk_78 (dk_at dksX8_init_0 11 rfl rfl)
theorem dX8_init_12 : decode cX8_init 12 = .ok (.aload_n 3, 1) := dk_45 (dk_at dksX8_init_0 12 rfl rfl)
theorem dX8_init_13 : decode cX8_init 13 = .ok (.arraylength, 1) := dk_190 (dk_at dksX8_init_0 13 rfl rfl)
theorem dX8_init_14 : decode cX8_init 14 = .ok (.istore 4, 2) := dk_54 4 (dk_at dksX8_init_0 14 rfl rfl)
theorem dX8_init_16 : decode cX8_init 16 = .ok (.iconst 0, 1) := dk_3 (dk_at dksX8_init_0 16 rfl rfl)
theorem dX8_init_17 : decode cX8_init 17 = .ok (.istore 5, 2) := dk_54 5 (dk_at dksX8_init_0 17 rfl rfl)
theorem dX8_init_19 : decode cX8_init 19 = .ok (.iload 5, 2) := dk_21 5 (dk_at dksX8_init_0 19 rfl rfl)
theorem dX8_init_21 : decode cX8_init 21 = .ok (.iload 4, 2) := dk_21 4 (dk_at dksX8_init_0 21 rfl rfl)
theorem dX8_init_23 : decode cX8_init 23 = .ok (.if_icmp .ge 25, 3) := dk_162 0 25 (dk_at dksX8_init_1 0 rfl rfl)
theorem dX8_init_26 : decode cX8_init 26 = .ok (.aload_n 3, 1) := dk_45 (dk_at dksX8_init_1 3 rfl rfl)
theorem dX8_init_27 : decode cX8_init 27 = .ok (.iload 5, 2) := dk_21 5 (dk_at dksX8_init_1 4 rfl rfl)
theorem dX8_init_29 : decode cX8_init 29 = .ok (.aaload, 1) := dk_50 (dk_at dksX8_init_1 6 rfl rfl)
theorem dX8_init_30 : decode cX8_init 30 = .ok (.astore 6, 2) := dk_58 6 (dk_at dksX8_init_1 7 rfl rfl)
theorem dX8_init_32 : decode cX8_init 32 = .ok (.aload_n 2, 1) := dk_44 (dk_at dksX8_init_1 9 rfl rfl)
theorem dX8_init_33 : decode cX8_init 33 = .ok (.iconst 0, 1) := dk_3 (dk_at dksX8_init_1 10 rfl rfl)
theorem dX8_init_34 : decode cX8_init 34 = .ok (.aload 6, 2) := dk_25 6 (dk_at dksX8_init_1 11 rfl rfl)
theorem dX8_init_36 : decode cX8_init 36 = .ok (.iconst 0, 1) := dk_3 (dk_at dksX8_init_1 13 rfl rfl)
theorem dX8_init_37 : decode cX8_init 37 = .ok (.aload_n 2, 1) := dk_44 (dk_at dksX8_init_1 14 rfl rfl)
theorem dX8_init_38 : decode cX8_init 38 = .ok (.arraylength, 1) := dk_190 (dk_at dksX8_init_1 15 rfl rfl)
theorem dX8_init_39 : decode cX8_init 39 = .ok (.invokestatic 36, 3) := dk_184 0 36 (dk_at dksX8_init_1 16 rfl rfl)
theorem dX8_init_42 : decode cX8_init 42 = .ok (.iinc 5 1, 3) := dk_132 5 1 (dk_at dksX8_init_1 19 rfl rfl)
theorem dX8_init_45 : decode cX8_init 45 = .ok (.goto (-26), 3) := dk_167 255 230 (dk_at dksX8_init_2 0 rfl rfl)
theorem dX8_init_48 : decode cX8_init 48 = .ok (.aload_n 0, 1) := dk_42 (dk_at dksX8_init_2 3 rfl rfl)
theorem dX8_init_49 : decode cX8_init 49 = .ok (.getfield 30, 3) := dk_180 0 30 (dk_at dksX8_init_2 4 rfl rfl)
theorem dX8_init_52 : decode cX8_init 52 = .ok (.astore_n 3, 1) := dk_78 (dk_at dksX8_init_2 7 rfl rfl)
theorem dX8_init_53 : decode cX8_init 53 = .ok (.aload_n 3, 1) := dk_45 (dk_at dksX8_init_2 8 rfl rfl)
theorem dX8_init_54 : decode cX8_init 54 = .ok (.arraylength, 1) := dk_190 (dk_at dksX8_init_2 9 rfl rfl)
theorem dX8_init_55 : decode cX8_init 55 = .ok (.istore 4, 2) := dk_54 4 (dk_at dksX8_init_2 10 rfl rfl)
theorem dX8_init_57 : decode cX8_init 57 = .ok (.iconst 0, 1) := dk_3 (dk_at dksX8_init_2 12 rfl rfl)
theorem dX8_init_58 : decode cX8_init 58 = .ok (.istore 5, 2) := dk_54 5 (dk_at dksX8_init_2 13 rfl rfl)
theorem dX8_init_60 : decode cX8_init 60 = .ok (.iload 5, 2) := dk_21 5 (dk_at dksX8_init_2 15 rfl rfl)
theorem dX8_init_62 : decode cX8_init 62 = .ok (.iload 4, 2) := dk_21 4 (dk_at dksX8_init_2 17 rfl rfl)
theorem dX8_init_64 : decode cX8_init 64 = .ok (.if_icmp .ge 39, 3) := dk_162 0 39 (dk_at dksX8_init_2 19 rfl rfl)
theorem dX8_init_67 : decode cX8_init 67 = .ok (.aload_n 3, 1) := dk_45 (dk_at dksX8_init_2 22 rfl rfl)
theorem dX8_init_68 : decode cX8_init 68 = .ok (.iload 5, 2) := dk_21 5 (dk_at dksX8_init_3 0 rfl rfl)
theorem dX8_init_70 : decode cX8_init 70 = .ok (.aaload, 1) := dk_50 (dk_at dksX8_init_3 2 rfl rfl)
theorem dX8_init_71 : decode cX8_init 71 = .ok (.astore 6, 2) := dk_58 6 (dk_at dksX8_init_3 3 rfl rfl)
theorem dX8_init_73 : decode cX8_init 73 = .ok (.iconst 0, 1) := dk_3 (dk_at dksX8_init_3 5 rfl rfl)
theorem dX8_init_74 : decode cX8_init 74 = .ok (.istore 7, 2) := dk_54 7 (dk_at dksX8_init_3 6 rfl rfl)
theorem dX8_init_76 : decode cX8_init 76 = .ok (.iload 7, 2) := dk_21 7 (dk_at dksX8_init_3 8 rfl rfl)
theorem dX8_init_78 : decode cX8_init 78 = .ok (.aload 6, 2) := dk_25 6 (dk_at dksX8_init_3 10 rfl rfl)
theorem dX8_init_80 : decode cX8_init 80 = .ok (.arraylength, 1) := dk_190 (dk_at dksX8_init_3 12 rfl rfl)
theorem dX8_init_81 : decode cX8_init 81 = .ok (.if_icmp .ge 16, 3) := dk_162 0 16 (dk_at dksX8_init_3 13 rfl rfl)
theorem dX8_init_84 : decode cX8_init 84 = .ok (.aload 6, 2) := dk_25 6 (dk_at dksX8_init_3 16 rfl rfl)
theorem dX8_init_86 : decode cX8_init 86 = .ok (.iload 7, 2) := dk_21 7 (dk_at dksX8_init_3 18 rfl rfl)
theorem dX8_init_88 : decode cX8_init 88 = .ok (.bipush (-2), 2) := dk_16 254 (dk_at dksX8_init_3 20 rfl rfl)
theorem dX8_init_90 : decode cX8_init 90 = .ok (.iastore, 1) := dk_79 (dk_at dksX8_init_3 22 rfl rfl)
theorem dX8_init_91 : decode cX8_init 91 = .ok (.iinc 7 1, 3) := dk_132 7 1 (dk_at dksX8_init_4 0 rfl rfl)
theorem dX8_init_94 : decode cX8_init 94 = .ok (.goto (-18), 3) := dk_167 255 238 (dk_at dksX8_init_4 3 rfl rfl)
theorem dX8_init_97 : decode cX8_init 97 = .ok (.iinc 5 1, 3) := dk_132 5 1 (dk_at dksX8_init_4 6 rfl rfl)
theorem dX8_init_100 : decode cX8_init 100 = .ok (.goto (-40), 3) := dk_167 255 216 (dk_at dksX8_init_4 9 rfl rfl)
theorem dX8_init_103 : decode cX8_init 103 = .ok (.return_, 1) := dk_177 (dk_at dksX8_init_4 12 rfl rfl)
abbrev cX8_init_2 : ByteArray := prog_5_method_1_code
def yX8_init_2 : MethodName := ⟨RX8, "<init>", "(I[II)V"⟩
def dkwX8_init_2_2 : List UInt8 := [197, 0, 22, 2, 181, 0, 30, 177]
abbrev dktX8_init_2_2 : List UInt8 := dkwX8_init_2_2 ++ []
def dkwX8_init_2_1 : List UInt8 := [197, 0, 22, 2, 181, 0, 24, 42, 29, 44, 190, 197, 0, 22, 2, 181, 0, 27, 42, 29, 6, 104, 44, 190]
abbrev dktX8_init_2_1 : List UInt8 := dkwX8_init_2_1 ++ dktX8_init_2_2
def dkwX8_init_2_0 : List UInt8 := [42, 183, 0, 3, 42, 2, 181, 0, 9, 42, 27, 181, 0, 15, 42, 44, 181, 0, 18, 42, 29, 44, 190]
abbrev dktX8_init_2_0 : List UInt8 := dkwX8_init_2_0 ++ dktX8_init_2_1
theorem dksX8_init_2_0 : cX8_init_2.data.toList.drop 0 = dktX8_init_2_0 := by decide +kernel
theorem dksX8_init_2_1 : cX8_init_2.data.toList.drop 23 = dktX8_init_2_1 := dk_seg dksX8_init_2_0 23 rfl rfl
theorem dksX8_init_2_2 : cX8_init_2.data.toList.drop 47 = dktX8_init_2_2 := dk_seg dksX8_init_2_1 24 rfl rfl
theorem dX8_init_2_0 : decode cX8_init_2 0 = .ok (.aload_n 0, 1) := dk_42 (dk_at dksX8_init_2_0 0 rfl rfl)
theorem dX8_init_2_1 : decode cX8_init_2 1 = .ok (.invokespecial 3, 3) := dk_183 0 3 (dk_at dksX8_init_2_0 1 rfl rfl)
theorem dX8_init_2_4 : decode cX8_init_2 4 = .ok (.aload_n 0, 1) := dk_42 (dk_at dksX8_init_2_0 4 rfl rfl)
theorem dX8_init_2_5 : decode cX8_init_2 5 = .ok (.iconst (-1), 1) := dk_2 (dk_at dksX8_init_2_0 5 rfl rfl)
theorem dX8_init_2_6 : decode cX8_init_2 6 = .ok (.putfield 9, 3) := dk_181 0 9 (dk_at dksX8_init_2_0 6 rfl rfl)
theorem dX8_init_2_9 : decode cX8_init_2 9 = .ok (.aload_n 0, 1) := dk_42 (dk_at dksX8_init_2_0 9 rfl rfl)
theorem dX8_init_2_10 : decode cX8_init_2 10 = .ok (.iload_n 1, 1) := dk_27 (dk_at dksX8_init_2_0 10 rfl rfl)
theorem dX8_init_2_11 : decode cX8_init_2 11 = .ok (.putfield 15, 3) := dk_181 0 15 (dk_at dksX8_init_2_0 11 rfl rfl)
theorem dX8_init_2_14 : decode cX8_init_2 14 = .ok (.aload_n 0, 1) := dk_42 (dk_at dksX8_init_2_0 14 rfl rfl)
theorem dX8_init_2_15 : decode cX8_init_2 15 = .ok (.aload_n 2, 1) := dk_44 (dk_at dksX8_init_2_0 15 rfl rfl)
theorem dX8_init_2_16 : decode cX8_init_2 16 = .ok (.putfield 18, 3) := dk_181 0 18 (dk_at dksX8_init_2_0 16 rfl rfl)
theorem dX8_init_2_19 : decode cX8_init_2 19 = .ok (.aload_n 0, 1) := dk_42 (dk_at dksX8_init_2_0 19 rfl rfl)
theorem dX8_init_2_20 : decode cX8_init_2 20 = .ok (.iload_n 3, 1) := dk_29 (dk_at dksX8_init_2_0 20 rfl rfl)
theorem dX8_init_2_21 : decode cX8_init_2 21 = .ok (.aload_n 2, 1) := dk_44 (dk_at dksX8_init_2_0 21 rfl rfl)
theorem dX8_init_2_22 : decode cX8_init_2 22 = .ok (.arraylength, 1) := dk_190 (dk_at dksX8_init_2_0 22 rfl rfl)
theorem dX8_init_2_23 : decode cX8_init_2 23 = .ok (.multianewarray 22 2, 4) := by decide +kernel
theorem dX8_init_2_27 : decode cX8_init_2 27 = .ok (.putfield 24, 3) := dk_181 0 24 (dk_at dksX8_init_2_1 4 rfl rfl)
theorem dX8_init_2_30 : decode cX8_init_2 30 = .ok (.aload_n 0, 1) := dk_42 (dk_at dksX8_init_2_1 7 rfl rfl)
theorem dX8_init_2_31 : decode cX8_init_2 31 = .ok (.iload_n 3, 1) := dk_29 (dk_at dksX8_init_2_1 8 rfl rfl)
theorem dX8_init_2_32 : decode cX8_init_2 32 = .ok (.aload_n 2, 1) := dk_44 (dk_at dksX8_init_2_1 9 rfl rfl)
theorem dX8_init_2_33 : decode cX8_init_2 33 = .ok (.arraylength, 1) := dk_190 (dk_at dksX8_init_2_1 10 rfl rfl)
theorem dX8_init_2_34 : decode cX8_init_2 34 = .ok (.multianewarray 22 2, 4) := by decide +kernel
theorem dX8_init_2_38 : decode cX8_init_2 38 = .ok (.putfield 27, 3) := dk_181 0 27 (dk_at dksX8_init_2_1 15 rfl rfl)
theorem dX8_init_2_41 : decode cX8_init_2 41 = .ok (.aload_n 0, 1) := dk_42 (dk_at dksX8_init_2_1 18 rfl rfl)
theorem dX8_init_2_42 : decode cX8_init_2 42 = .ok (.iload_n 3, 1) := dk_29 (dk_at dksX8_init_2_1 19 rfl rfl)
theorem dX8_init_2_43 : decode cX8_init_2 43 = .ok (.iconst 3, 1) := dk_6 (dk_at dksX8_init_2_1 20 rfl rfl)
theorem dX8_init_2_44 : decode cX8_init_2 44 = .ok (.imul, 1) := dk_104 (dk_at dksX8_init_2_1 21 rfl rfl)
theorem dX8_init_2_45 : decode cX8_init_2 45 = .ok (.aload_n 2, 1) := dk_44 (dk_at dksX8_init_2_1 22 rfl rfl)
theorem dX8_init_2_46 : decode cX8_init_2 46 = .ok (.arraylength, 1) := dk_190 (dk_at dksX8_init_2_1 23 rfl rfl)
theorem dX8_init_2_47 : decode cX8_init_2 47 = .ok (.multianewarray 22 2, 4) := by decide +kernel
theorem dX8_init_2_51 : decode cX8_init_2 51 = .ok (.putfield 30, 3) := dk_181 0 30 (dk_at dksX8_init_2_2 4 rfl rfl)
theorem dX8_init_2_54 : decode cX8_init_2 54 = .ok (.return_, 1) := dk_177 (dk_at dksX8_init_2_2 7 rfl rfl)
abbrev cX8_unsure : ByteArray := prog_5_method_10_code
def yX8_unsure : MethodName := ⟨RX8, "unsure", "()I"⟩
def dkwX8_unsure_0 : List UInt8 := [42, 3, 182, 0, 76, 42, 4, 182, 0, 76, 96, 42, 5, 182, 0, 76, 96, 172]
abbrev dktX8_unsure_0 : List UInt8 := dkwX8_unsure_0 ++ []
theorem dksX8_unsure_0 : cX8_unsure.data.toList.drop 0 = dktX8_unsure_0 := by decide +kernel
theorem dX8_unsure_0 : decode cX8_unsure 0 = .ok (.aload_n 0, 1) := dk_42 (dk_at dksX8_unsure_0 0 rfl rfl)
theorem dX8_unsure_1 : decode cX8_unsure 1 = .ok (.iconst 0, 1) := dk_3 (dk_at dksX8_unsure_0 1 rfl rfl)
theorem dX8_unsure_2 : decode cX8_unsure 2 = .ok (.invokevirtual 76, 3) := dk_182 0 76 (dk_at dksX8_unsure_0 2 rfl rfl)
theorem dX8_unsure_5 : decode cX8_unsure 5 = .ok (.aload_n 0, 1) := dk_42 (dk_at dksX8_unsure_0 5 rfl rfl)
theorem dX8_unsure_6 : decode cX8_unsure 6 = .ok (.iconst 1, 1) := dk_4 (dk_at dksX8_unsure_0 6 rfl rfl)
theorem dX8_unsure_7 : decode cX8_unsure 7 = .ok (.invokevirtual 76, 3) := dk_182 0 76 (dk_at dksX8_unsure_0 7 rfl rfl)
theorem dX8_unsure_10 : decode cX8_unsure 10 = .ok (.iadd, 1) := dk_96 (dk_at dksX8_unsure_0 10 rfl rfl)
theorem dX8_unsure_11 : decode cX8_unsure 11 = .ok (.aload_n 0, 1) := dk_42 (dk_at dksX8_unsure_0 11 rfl rfl)
theorem dX8_unsure_12 : decode cX8_unsure 12 = .ok (.iconst 2, 1) := dk_5 (dk_at dksX8_unsure_0 12 rfl rfl)
theorem dX8_unsure_13 : decode cX8_unsure 13 = .ok (.invokevirtual 76, 3) := dk_182 0 76 (dk_at dksX8_unsure_0 13 rfl rfl)
theorem dX8_unsure_16 : decode cX8_unsure 16 = .ok (.iadd, 1) := dk_96 (dk_at dksX8_unsure_0 16 rfl rfl)
theorem dX8_unsure_17 : decode cX8_unsure 17 = .ok (.ireturn, 1) := dk_172 (dk_at dksX8_unsure_0 17 rfl rfl)
abbrev cX8_unsure_2 : ByteArray := prog_5_method_9_code
def yX8_unsure_2 : MethodName := ⟨RX8, "unsure", "(I)I"⟩
def dkwX8_unsure_2_2 : List UInt8 := [132, 5, 1, 167, 255, 223, 28, 172]
abbrev dktX8_unsure_2_2 : List UInt8 := dkwX8_unsure_2_2 ++ []
def dkwX8_unsure_2_1 : List UInt8 := [21, 5, 46, 54, 6, 28, 21, 6, 2, 160, 0, 7, 4, 167, 0, 4, 3, 184, 0, 72, 96, 61]
abbrev dktX8_unsure_2_1 : List UInt8 := dkwX8_unsure_2_1 ++ dktX8_unsure_2_2
def dkwX8_unsure_2_0 : List UInt8 := [3, 61, 42, 180, 0, 24, 27, 50, 78, 45, 190, 54, 4, 3, 54, 5, 21, 5, 21, 4, 162, 0, 32, 45]
abbrev dktX8_unsure_2_0 : List UInt8 := dkwX8_unsure_2_0 ++ dktX8_unsure_2_1
theorem dksX8_unsure_2_0 : cX8_unsure_2.data.toList.drop 0 = dktX8_unsure_2_0 := by decide +kernel
theorem dksX8_unsure_2_1 : cX8_unsure_2.data.toList.drop 24 = dktX8_unsure_2_1 := dk_seg dksX8_unsure_2_0 24 rfl rfl
theorem dksX8_unsure_2_2 : cX8_unsure_2.data.toList.drop 46 = dktX8_unsure_2_2 := dk_seg dksX8_unsure_2_1 22 rfl rfl
theorem dX8_unsure_2_0 : decode cX8_unsure_2 0 = .ok (.iconst 0, 1) := dk_3 (dk_at dksX8_unsure_2_0 0 rfl rfl)
theorem dX8_unsure_2_1 : decode cX8_unsure_2 1 = .ok (.istore_n 2, 1) := dk_61 (dk_at dksX8_unsure_2_0 1 rfl rfl)
theorem dX8_unsure_2_2 : decode cX8_unsure_2 2 = .ok (.aload_n 0, 1) := dk_42 (dk_at dksX8_unsure_2_0 2 rfl rfl)
theorem dX8_unsure_2_3 : decode cX8_unsure_2 3 = .ok (.getfield 24, 3) := dk_180 0 24 (dk_at dksX8_unsure_2_0 3 rfl rfl)
theorem dX8_unsure_2_6 : decode cX8_unsure_2 6 = .ok (.iload_n 1, 1) := dk_27 (dk_at dksX8_unsure_2_0 6 rfl rfl)
theorem dX8_unsure_2_7 : decode cX8_unsure_2 7 = .ok (.aaload, 1) := dk_50 (dk_at dksX8_unsure_2_0 7 rfl rfl)
theorem dX8_unsure_2_8 : decode cX8_unsure_2 8 = .ok (.astore_n 3, 1) := dk_78 (dk_at dksX8_unsure_2_0 8 rfl rfl)
theorem dX8_unsure_2_9 : decode cX8_unsure_2 9 = .ok (.aload_n 3, 1) := dk_45 (dk_at dksX8_unsure_2_0 9 rfl rfl)
theorem dX8_unsure_2_10 : decode cX8_unsure_2 10 = .ok (.arraylength, 1) := dk_190 (dk_at dksX8_unsure_2_0 10 rfl rfl)
theorem dX8_unsure_2_11 : decode cX8_unsure_2 11 = .ok (.istore 4, 2) := dk_54 4 (dk_at dksX8_unsure_2_0 11 rfl rfl)
theorem dX8_unsure_2_13 : decode cX8_unsure_2 13 = .ok (.iconst 0, 1) := dk_3 (dk_at dksX8_unsure_2_0 13 rfl rfl)
theorem dX8_unsure_2_14 : decode cX8_unsure_2 14 = .ok (.istore 5, 2) := dk_54 5 (dk_at dksX8_unsure_2_0 14 rfl rfl)
theorem dX8_unsure_2_16 : decode cX8_unsure_2 16 = .ok (.iload 5, 2) := dk_21 5 (dk_at dksX8_unsure_2_0 16 rfl rfl)
theorem dX8_unsure_2_18 : decode cX8_unsure_2 18 = .ok (.iload 4, 2) := dk_21 4 (dk_at dksX8_unsure_2_0 18 rfl rfl)
theorem dX8_unsure_2_20 : decode cX8_unsure_2 20 = .ok (.if_icmp .ge 32, 3) := dk_162 0 32 (dk_at dksX8_unsure_2_0 20 rfl rfl)
theorem dX8_unsure_2_23 : decode cX8_unsure_2 23 = .ok (.aload_n 3, 1) := dk_45 (dk_at dksX8_unsure_2_0 23 rfl rfl)
theorem dX8_unsure_2_24 : decode cX8_unsure_2 24 = .ok (.iload 5, 2) := dk_21 5 (dk_at dksX8_unsure_2_1 0 rfl rfl)
theorem dX8_unsure_2_26 : decode cX8_unsure_2 26 = .ok (.iaload, 1) := dk_46 (dk_at dksX8_unsure_2_1 2 rfl rfl)
theorem dX8_unsure_2_27 : decode cX8_unsure_2 27 = .ok (.istore 6, 2) := dk_54 6 (dk_at dksX8_unsure_2_1 3 rfl rfl)
theorem dX8_unsure_2_29 : decode cX8_unsure_2 29 = .ok (.iload_n 2, 1) := dk_28 (dk_at dksX8_unsure_2_1 5 rfl rfl)
theorem dX8_unsure_2_30 : decode cX8_unsure_2 30 = .ok (.iload 6, 2) := dk_21 6 (dk_at dksX8_unsure_2_1 6 rfl rfl)
theorem dX8_unsure_2_32 : decode cX8_unsure_2 32 = .ok (.iconst (-1), 1) := dk_2 (dk_at dksX8_unsure_2_1 8 rfl rfl)
theorem dX8_unsure_2_33 : decode cX8_unsure_2 33 = .ok (.if_icmp .ne 7, 3) := dk_160 0 7 (dk_at dksX8_unsure_2_1 9 rfl rfl)
theorem dX8_unsure_2_36 : decode cX8_unsure_2 36 = .ok (.iconst 1, 1) := dk_4 (dk_at dksX8_unsure_2_1 12 rfl rfl)
theorem dX8_unsure_2_37 : decode cX8_unsure_2 37 = .ok (.goto 4, 3) := dk_167 0 4 (dk_at dksX8_unsure_2_1 13 rfl rfl)
theorem dX8_unsure_2_40 : decode cX8_unsure_2 40 = .ok (.iconst 0, 1) := dk_3 (dk_at dksX8_unsure_2_1 16 rfl rfl)
theorem dX8_unsure_2_41 : decode cX8_unsure_2 41 = .ok (.invokestatic 72, 3) := dk_184 0 72 (dk_at dksX8_unsure_2_1 17 rfl rfl)
theorem dX8_unsure_2_44 : decode cX8_unsure_2 44 = .ok (.iadd, 1) := dk_96 (dk_at dksX8_unsure_2_1 20 rfl rfl)
theorem dX8_unsure_2_45 : decode cX8_unsure_2 45 = .ok (.istore_n 2, 1) := dk_61 (dk_at dksX8_unsure_2_1 21 rfl rfl)
theorem dX8_unsure_2_46 : decode cX8_unsure_2 46 = .ok (.iinc 5 1, 3) := dk_132 5 1 (dk_at dksX8_unsure_2_2 0 rfl rfl)
theorem dX8_unsure_2_49 : decode cX8_unsure_2 49 = .ok (.goto (-33), 3) := dk_167 255 223 (dk_at dksX8_unsure_2_2 3 rfl rfl)
theorem dX8_unsure_2_52 : decode cX8_unsure_2 52 = .ok (.iload_n 2, 1) := dk_28 (dk_at dksX8_unsure_2_2 6 rfl rfl)
theorem dX8_unsure_2_53 : decode cX8_unsure_2 53 = .ok (.ireturn, 1) := dk_172 (dk_at dksX8_unsure_2_2 7 rfl rfl)
abbrev cX8_passes : ByteArray := prog_5_method_12_code
def yX8_passes : MethodName := ⟨RX8, "passes", "(LVotingHuts$Wires;III)I"⟩
def dkwX8_passes_8 : List UInt8 := [161, 0, 8, 42, 28, 181, 0, 9, 21, 5, 172]
abbrev dktX8_passes_8 : List UInt8 := dkwX8_passes_8 ++ []
def dkwX8_passes_7 : List UInt8 := [180, 0, 46, 29, 4, 100, 160, 0, 24, 42, 182, 0, 80, 153, 0, 12, 42, 180, 0, 49, 21, 4]
abbrev dktX8_passes_7 : List UInt8 := dkwX8_passes_7 ++ dktX8_passes_8
def dkwX8_passes_6 : List UInt8 := [21, 7, 182, 0, 89, 132, 7, 1, 167, 255, 234, 132, 6, 1, 167, 255, 219, 21, 5, 158, 0, 34, 42]
abbrev dktX8_passes_6 : List UInt8 := dkwX8_passes_6 ++ dktX8_passes_7
def dkwX8_passes_5 : List UInt8 := [21, 6, 6, 162, 0, 37, 3, 54, 7, 21, 7, 42, 182, 0, 86, 162, 0, 19, 42, 43, 28, 21, 6]
abbrev dktX8_passes_5 : List UInt8 := dkwX8_passes_5 ++ dktX8_passes_6
def dkwX8_passes_4 : List UInt8 := [180, 0, 27, 184, 0, 42, 42, 89, 180, 0, 46, 4, 96, 181, 0, 46, 42, 3, 181, 0, 49, 3, 54, 6]
abbrev dktX8_passes_4 : List UInt8 := dkwX8_passes_4 ++ dktX8_passes_5
def dkwX8_passes_3 : List UInt8 := [167, 255, 205, 42, 89, 180, 0, 49, 4, 96, 181, 0, 49, 21, 5, 5, 160, 0, 72, 42, 180, 0, 24, 42]
abbrev dktX8_passes_3 : List UInt8 := dkwX8_passes_3 ++ dktX8_passes_4
def dkwX8_passes_2 : List UInt8 := [160, 0, 13, 42, 43, 28, 21, 6, 21, 7, 182, 0, 89, 132, 7, 1, 167, 255, 220, 132, 6, 1]
abbrev dktX8_passes_2 : List UInt8 := dkwX8_passes_2 ++ dktX8_passes_3
def dkwX8_passes_1 : List UInt8 := [3, 54, 7, 21, 7, 42, 182, 0, 86, 162, 0, 33, 42, 180, 0, 24, 21, 6, 50, 21, 7, 46, 2]
abbrev dktX8_passes_1 : List UInt8 := dkwX8_passes_1 ++ dktX8_passes_2
def dkwX8_passes_0 : List UInt8 := [42, 29, 21, 4, 182, 0, 83, 54, 5, 21, 5, 4, 160, 0, 70, 3, 54, 6, 21, 6, 6, 162, 0, 51]
abbrev dktX8_passes_0 : List UInt8 := dkwX8_passes_0 ++ dktX8_passes_1
theorem dksX8_passes_0 : cX8_passes.data.toList.drop 0 = dktX8_passes_0 := by decide +kernel
theorem dksX8_passes_1 : cX8_passes.data.toList.drop 24 = dktX8_passes_1 := dk_seg dksX8_passes_0 24 rfl rfl
theorem dksX8_passes_2 : cX8_passes.data.toList.drop 47 = dktX8_passes_2 := dk_seg dksX8_passes_1 23 rfl rfl
theorem dksX8_passes_3 : cX8_passes.data.toList.drop 69 = dktX8_passes_3 := dk_seg dksX8_passes_2 22 rfl rfl
theorem dksX8_passes_4 : cX8_passes.data.toList.drop 93 = dktX8_passes_4 := dk_seg dksX8_passes_3 24 rfl rfl
theorem dksX8_passes_5 : cX8_passes.data.toList.drop 117 = dktX8_passes_5 := dk_seg dksX8_passes_4 24 rfl rfl
theorem dksX8_passes_6 : cX8_passes.data.toList.drop 140 = dktX8_passes_6 := dk_seg dksX8_passes_5 23 rfl rfl
theorem dksX8_passes_7 : cX8_passes.data.toList.drop 163 = dktX8_passes_7 := dk_seg dksX8_passes_6 23 rfl rfl
theorem dksX8_passes_8 : cX8_passes.data.toList.drop 185 = dktX8_passes_8 := dk_seg dksX8_passes_7 22 rfl rfl
theorem dX8_passes_0 : decode cX8_passes 0 = .ok (.aload_n 0, 1) := dk_42 (dk_at dksX8_passes_0 0 rfl rfl)
theorem dX8_passes_1 : decode cX8_passes 1 = .ok (.iload_n 3, 1) := dk_29 (dk_at dksX8_passes_0 1 rfl rfl)
theorem dX8_passes_2 : decode cX8_passes 2 = .ok (.iload 4, 2) := dk_21 4 (dk_at dksX8_passes_0 2 rfl rfl)
theorem dX8_passes_4 : decode cX8_passes 4 = .ok (.invokevirtual 83, 3) := dk_182 0 83 (dk_at dksX8_passes_0 4 rfl rfl)
theorem dX8_passes_7 : decode cX8_passes 7 = .ok (.istore 5, 2) := dk_54 5 (dk_at dksX8_passes_0 7 rfl rfl)
theorem dX8_passes_9 : decode cX8_passes 9 = .ok (.iload 5, 2) := dk_21 5 (dk_at dksX8_passes_0 9 rfl rfl)
theorem dX8_passes_11 : decode cX8_passes 11 = .ok (.iconst 1, 1) := dk_4 (dk_at dksX8_passes_0 11 rfl rfl)
theorem dX8_passes_12 : decode cX8_passes 12 = .ok (.if_icmp .ne 70, 3) := dk_160 0 70 (dk_at dksX8_passes_0 12 rfl rfl)
theorem dX8_passes_15 : decode cX8_passes 15 = .ok (.iconst 0, 1) := dk_3 (dk_at dksX8_passes_0 15 rfl rfl)
theorem dX8_passes_16 : decode cX8_passes 16 = .ok (.istore 6, 2) := dk_54 6 (dk_at dksX8_passes_0 16 rfl rfl)
theorem dX8_passes_18 : decode cX8_passes 18 = .ok (.iload 6, 2) := dk_21 6 (dk_at dksX8_passes_0 18 rfl rfl)
theorem dX8_passes_20 : decode cX8_passes 20 = .ok (.iconst 3, 1) := dk_6 (dk_at dksX8_passes_0 20 rfl rfl)
theorem dX8_passes_21 : decode cX8_passes 21 = .ok (.if_icmp .ge 51, 3) := dk_162 0 51 (dk_at dksX8_passes_0 21 rfl rfl)
theorem dX8_passes_24 : decode cX8_passes 24 = .ok (.iconst 0, 1) := dk_3 (dk_at dksX8_passes_1 0 rfl rfl)
theorem dX8_passes_25 : decode cX8_passes 25 = .ok (.istore 7, 2) := dk_54 7 (dk_at dksX8_passes_1 1 rfl rfl)
theorem dX8_passes_27 : decode cX8_passes 27 = .ok (.iload 7, 2) := dk_21 7 (dk_at dksX8_passes_1 3 rfl rfl)
theorem dX8_passes_29 : decode cX8_passes 29 = .ok (.aload_n 0, 1) := dk_42 (dk_at dksX8_passes_1 5 rfl rfl)
theorem dX8_passes_30 : decode cX8_passes 30 = .ok (.invokevirtual 86, 3) := dk_182 0 86 (dk_at dksX8_passes_1 6 rfl rfl)
theorem dX8_passes_33 : decode cX8_passes 33 = .ok (.if_icmp .ge 33, 3) := dk_162 0 33 (dk_at dksX8_passes_1 9 rfl rfl)
theorem dX8_passes_36 : decode cX8_passes 36 = .ok (.aload_n 0, 1) := dk_42 (dk_at dksX8_passes_1 12 rfl rfl)
theorem dX8_passes_37 : decode cX8_passes 37 = .ok (.getfield 24, 3) := dk_180 0 24 (dk_at dksX8_passes_1 13 rfl rfl)
theorem dX8_passes_40 : decode cX8_passes 40 = .ok (.iload 6, 2) := dk_21 6 (dk_at dksX8_passes_1 16 rfl rfl)
theorem dX8_passes_42 : decode cX8_passes 42 = .ok (.aaload, 1) := dk_50 (dk_at dksX8_passes_1 18 rfl rfl)
theorem dX8_passes_43 : decode cX8_passes 43 = .ok (.iload 7, 2) := dk_21 7 (dk_at dksX8_passes_1 19 rfl rfl)
theorem dX8_passes_45 : decode cX8_passes 45 = .ok (.iaload, 1) := dk_46 (dk_at dksX8_passes_1 21 rfl rfl)
theorem dX8_passes_46 : decode cX8_passes 46 = .ok (.iconst (-1), 1) := dk_2 (dk_at dksX8_passes_1 22 rfl rfl)
theorem dX8_passes_47 : decode cX8_passes 47 = .ok (.if_icmp .ne 13, 3) := dk_160 0 13 (dk_at dksX8_passes_2 0 rfl rfl)
theorem dX8_passes_50 : decode cX8_passes 50 = .ok (.aload_n 0, 1) := dk_42 (dk_at dksX8_passes_2 3 rfl rfl)
theorem dX8_passes_51 : decode cX8_passes 51 = .ok (.aload_n 1, 1) := dk_43 (dk_at dksX8_passes_2 4 rfl rfl)
theorem dX8_passes_52 : decode cX8_passes 52 = .ok (.iload_n 2, 1) := dk_28 (dk_at dksX8_passes_2 5 rfl rfl)
theorem dX8_passes_53 : decode cX8_passes 53 = .ok (.iload 6, 2) := dk_21 6 (dk_at dksX8_passes_2 6 rfl rfl)
theorem dX8_passes_55 : decode cX8_passes 55 = .ok (.iload 7, 2) := dk_21 7 (dk_at dksX8_passes_2 8 rfl rfl)
theorem dX8_passes_57 : decode cX8_passes 57 = .ok (.invokevirtual 89, 3) := dk_182 0 89 (dk_at dksX8_passes_2 10 rfl rfl)
theorem dX8_passes_60 : decode cX8_passes 60 = .ok (.iinc 7 1, 3) := dk_132 7 1 (dk_at dksX8_passes_2 13 rfl rfl)
theorem dX8_passes_63 : decode cX8_passes 63 = .ok (.goto (-36), 3) := dk_167 255 220 (dk_at dksX8_passes_2 16 rfl rfl)
theorem dX8_passes_66 : decode cX8_passes 66 = .ok (.iinc 6 1, 3) := dk_132 6 1 (dk_at dksX8_passes_2 19 rfl rfl)
theorem dX8_passes_69 : decode cX8_passes 69 = .ok (.goto (-51), 3) := dk_167 255 205 (dk_at dksX8_passes_3 0 rfl rfl)
theorem dX8_passes_72 : decode cX8_passes 72 = .ok (.aload_n 0, 1) := dk_42 (dk_at dksX8_passes_3 3 rfl rfl)
theorem dX8_passes_73 : decode cX8_passes 73 = .ok (.dup, 1) := dk_89 (dk_at dksX8_passes_3 4 rfl rfl)
theorem dX8_passes_74 : decode cX8_passes 74 = .ok (.getfield 49, 3) := dk_180 0 49 (dk_at dksX8_passes_3 5 rfl rfl)
theorem dX8_passes_77 : decode cX8_passes 77 = .ok (.iconst 1, 1) := dk_4 (dk_at dksX8_passes_3 8 rfl rfl)
theorem dX8_passes_78 : decode cX8_passes 78 = .ok (.iadd, 1) := dk_96 (dk_at dksX8_passes_3 9 rfl rfl)
theorem dX8_passes_79 : decode cX8_passes 79 = .ok (.putfield 49, 3) := dk_181 0 49 (dk_at dksX8_passes_3 10 rfl rfl)
theorem dX8_passes_82 : decode cX8_passes 82 = .ok (.iload 5, 2) := dk_21 5 (dk_at dksX8_passes_3 13 rfl rfl)
theorem dX8_passes_84 : decode cX8_passes 84 = .ok (.iconst 2, 1) := dk_5 (dk_at dksX8_passes_3 15 rfl rfl)
theorem dX8_passes_85 : decode cX8_passes 85 = .ok (.if_icmp .ne 72, 3) := dk_160 0 72 (dk_at dksX8_passes_3 16 rfl rfl)
theorem dX8_passes_88 : decode cX8_passes 88 = .ok (.aload_n 0, 1) := dk_42 (dk_at dksX8_passes_3 19 rfl rfl)
theorem dX8_passes_89 : decode cX8_passes 89 = .ok (.getfield 24, 3) := dk_180 0 24 (dk_at dksX8_passes_3 20 rfl rfl)
theorem dX8_passes_92 : decode cX8_passes 92 = .ok (.aload_n 0, 1) := dk_42 (dk_at dksX8_passes_3 23 rfl rfl)
theorem dX8_passes_93 : decode cX8_passes 93 = .ok (.getfield 27, 3) := dk_180 0 27 (dk_at dksX8_passes_4 0 rfl rfl)
theorem dX8_passes_96 : decode cX8_passes 96 = .ok (.invokestatic 42, 3) := dk_184 0 42 (dk_at dksX8_passes_4 3 rfl rfl)
theorem dX8_passes_99 : decode cX8_passes 99 = .ok (.aload_n 0, 1) := dk_42 (dk_at dksX8_passes_4 6 rfl rfl)
theorem dX8_passes_100 : decode cX8_passes 100 = .ok (.dup, 1) := dk_89 (dk_at dksX8_passes_4 7 rfl rfl)
theorem dX8_passes_101 : decode cX8_passes 101 = .ok (.getfield 46, 3) := dk_180 0 46 (dk_at dksX8_passes_4 8 rfl rfl)
theorem dX8_passes_104 : decode cX8_passes 104 = .ok (.iconst 1, 1) := dk_4 (dk_at dksX8_passes_4 11 rfl rfl)
theorem dX8_passes_105 : decode cX8_passes 105 = .ok (.iadd, 1) := dk_96 (dk_at dksX8_passes_4 12 rfl rfl)
theorem dX8_passes_106 : decode cX8_passes 106 = .ok (.putfield 46, 3) := dk_181 0 46 (dk_at dksX8_passes_4 13 rfl rfl)
theorem dX8_passes_109 : decode cX8_passes 109 = .ok (.aload_n 0, 1) := dk_42 (dk_at dksX8_passes_4 16 rfl rfl)
theorem dX8_passes_110 : decode cX8_passes 110 = .ok (.iconst 0, 1) := dk_3 (dk_at dksX8_passes_4 17 rfl rfl)
theorem dX8_passes_111 : decode cX8_passes 111 = .ok (.putfield 49, 3) := dk_181 0 49 (dk_at dksX8_passes_4 18 rfl rfl)
theorem dX8_passes_114 : decode cX8_passes 114 = .ok (.iconst 0, 1) := dk_3 (dk_at dksX8_passes_4 21 rfl rfl)
theorem dX8_passes_115 : decode cX8_passes 115 = .ok (.istore 6, 2) := dk_54 6 (dk_at dksX8_passes_4 22 rfl rfl)
theorem dX8_passes_117 : decode cX8_passes 117 = .ok (.iload 6, 2) := dk_21 6 (dk_at dksX8_passes_5 0 rfl rfl)
theorem dX8_passes_119 : decode cX8_passes 119 = .ok (.iconst 3, 1) := dk_6 (dk_at dksX8_passes_5 2 rfl rfl)
theorem dX8_passes_120 : decode cX8_passes 120 = .ok (.if_icmp .ge 37, 3) := dk_162 0 37 (dk_at dksX8_passes_5 3 rfl rfl)
theorem dX8_passes_123 : decode cX8_passes 123 = .ok (.iconst 0, 1) := dk_3 (dk_at dksX8_passes_5 6 rfl rfl)
theorem dX8_passes_124 : decode cX8_passes 124 = .ok (.istore 7, 2) := dk_54 7 (dk_at dksX8_passes_5 7 rfl rfl)
theorem dX8_passes_126 : decode cX8_passes 126 = .ok (.iload 7, 2) := dk_21 7 (dk_at dksX8_passes_5 9 rfl rfl)
theorem dX8_passes_128 : decode cX8_passes 128 = .ok (.aload_n 0, 1) := dk_42 (dk_at dksX8_passes_5 11 rfl rfl)
theorem dX8_passes_129 : decode cX8_passes 129 = .ok (.invokevirtual 86, 3) := dk_182 0 86 (dk_at dksX8_passes_5 12 rfl rfl)
theorem dX8_passes_132 : decode cX8_passes 132 = .ok (.if_icmp .ge 19, 3) := dk_162 0 19 (dk_at dksX8_passes_5 15 rfl rfl)
theorem dX8_passes_135 : decode cX8_passes 135 = .ok (.aload_n 0, 1) := dk_42 (dk_at dksX8_passes_5 18 rfl rfl)
theorem dX8_passes_136 : decode cX8_passes 136 = .ok (.aload_n 1, 1) := dk_43 (dk_at dksX8_passes_5 19 rfl rfl)
theorem dX8_passes_137 : decode cX8_passes 137 = .ok (.iload_n 2, 1) := dk_28 (dk_at dksX8_passes_5 20 rfl rfl)
theorem dX8_passes_138 : decode cX8_passes 138 = .ok (.iload 6, 2) := dk_21 6 (dk_at dksX8_passes_5 21 rfl rfl)
theorem dX8_passes_140 : decode cX8_passes 140 = .ok (.iload 7, 2) := dk_21 7 (dk_at dksX8_passes_6 0 rfl rfl)
theorem dX8_passes_142 : decode cX8_passes 142 = .ok (.invokevirtual 89, 3) := dk_182 0 89 (dk_at dksX8_passes_6 2 rfl rfl)
theorem dX8_passes_145 : decode cX8_passes 145 = .ok (.iinc 7 1, 3) := dk_132 7 1 (dk_at dksX8_passes_6 5 rfl rfl)
theorem dX8_passes_148 : decode cX8_passes 148 = .ok (.goto (-22), 3) := dk_167 255 234 (dk_at dksX8_passes_6 8 rfl rfl)
theorem dX8_passes_151 : decode cX8_passes 151 = .ok (.iinc 6 1, 3) := dk_132 6 1 (dk_at dksX8_passes_6 11 rfl rfl)
theorem dX8_passes_154 : decode cX8_passes 154 = .ok (.goto (-37), 3) := dk_167 255 219 (dk_at dksX8_passes_6 14 rfl rfl)
theorem dX8_passes_157 : decode cX8_passes 157 = .ok (.iload 5, 2) := dk_21 5 (dk_at dksX8_passes_6 17 rfl rfl)
theorem dX8_passes_159 : decode cX8_passes 159 = .ok (.ifCond .le 34, 3) := dk_158 0 34 (dk_at dksX8_passes_6 19 rfl rfl)
theorem dX8_passes_162 : decode cX8_passes 162 = .ok (.aload_n 0, 1) := dk_42 (dk_at dksX8_passes_6 22 rfl rfl)
theorem dX8_passes_163 : decode cX8_passes 163 = .ok (.getfield 46, 3) := dk_180 0 46 (dk_at dksX8_passes_7 0 rfl rfl)
theorem dX8_passes_166 : decode cX8_passes 166 = .ok (.iload_n 3, 1) := dk_29 (dk_at dksX8_passes_7 3 rfl rfl)
theorem dX8_passes_167 : decode cX8_passes 167 = .ok (.iconst 1, 1) := dk_4 (dk_at dksX8_passes_7 4 rfl rfl)
theorem dX8_passes_168 : decode cX8_passes 168 = .ok (.isub, 1) := dk_100 (dk_at dksX8_passes_7 5 rfl rfl)
theorem dX8_passes_169 : decode cX8_passes 169 = .ok (.if_icmp .ne 24, 3) := dk_160 0 24 (dk_at dksX8_passes_7 6 rfl rfl)
theorem dX8_passes_172 : decode cX8_passes 172 = .ok (.aload_n 0, 1) := dk_42 (dk_at dksX8_passes_7 9 rfl rfl)
theorem dX8_passes_173 : decode cX8_passes 173 = .ok (.invokevirtual 80, 3) := dk_182 0 80 (dk_at dksX8_passes_7 10 rfl rfl)
theorem dX8_passes_176 : decode cX8_passes 176 = .ok (.ifCond .eq 12, 3) := dk_153 0 12 (dk_at dksX8_passes_7 13 rfl rfl)
theorem dX8_passes_179 : decode cX8_passes 179 = .ok (.aload_n 0, 1) := dk_42 (dk_at dksX8_passes_7 16 rfl rfl)
theorem dX8_passes_180 : decode cX8_passes 180 = .ok (.getfield 49, 3) := dk_180 0 49 (dk_at dksX8_passes_7 17 rfl rfl)
theorem dX8_passes_183 : decode cX8_passes 183 = .ok (.iload 4, 2) := dk_21 4 (dk_at dksX8_passes_7 20 rfl rfl)
theorem dX8_passes_185 : decode cX8_passes 185 = .ok (.if_icmp .lt 8, 3) := dk_161 0 8 (dk_at dksX8_passes_8 0 rfl rfl)
theorem dX8_passes_188 : decode cX8_passes 188 = .ok (.aload_n 0, 1) := dk_42 (dk_at dksX8_passes_8 3 rfl rfl)
theorem dX8_passes_189 : decode cX8_passes 189 = .ok (.iload_n 2, 1) := dk_28 (dk_at dksX8_passes_8 4 rfl rfl)
theorem dX8_passes_190 : decode cX8_passes 190 = .ok (.putfield 9, 3) := dk_181 0 9 (dk_at dksX8_passes_8 5 rfl rfl)
theorem dX8_passes_193 : decode cX8_passes 193 = .ok (.iload 5, 2) := dk_21 5 (dk_at dksX8_passes_8 8 rfl rfl)
theorem dX8_passes_195 : decode cX8_passes 195 = .ok (.ireturn, 1) := dk_172 (dk_at dksX8_passes_8 10 rfl rfl)
abbrev cX8_next : ByteArray := prog_5_method_11_code
def yX8_next : MethodName := ⟨RX8, "next", "(II)I"⟩
def dkwX8_next_2 : List UInt8 := [6, 172]
abbrev dktX8_next_2 : List UInt8 := dkwX8_next_2 ++ []
def dkwX8_next_1 : List UInt8 := [42, 180, 0, 49, 28, 162, 0, 5, 4, 172, 42, 180, 0, 46, 27, 4, 100, 162, 0, 7, 5, 167, 0, 4]
abbrev dktX8_next_1 : List UInt8 := dkwX8_next_1 ++ dktX8_next_2
def dkwX8_next_0 : List UInt8 := [42, 180, 0, 9, 2, 159, 0, 5, 3, 172, 42, 180, 0, 46, 158, 0, 20, 42, 182, 0, 80, 158, 0, 13]
abbrev dktX8_next_0 : List UInt8 := dkwX8_next_0 ++ dktX8_next_1
theorem dksX8_next_0 : cX8_next.data.toList.drop 0 = dktX8_next_0 := by decide +kernel
theorem dksX8_next_1 : cX8_next.data.toList.drop 24 = dktX8_next_1 := dk_seg dksX8_next_0 24 rfl rfl
theorem dksX8_next_2 : cX8_next.data.toList.drop 48 = dktX8_next_2 := dk_seg dksX8_next_1 24 rfl rfl
theorem dX8_next_0 : decode cX8_next 0 = .ok (.aload_n 0, 1) := dk_42 (dk_at dksX8_next_0 0 rfl rfl)
theorem dX8_next_1 : decode cX8_next 1 = .ok (.getfield 9, 3) := dk_180 0 9 (dk_at dksX8_next_0 1 rfl rfl)
theorem dX8_next_4 : decode cX8_next 4 = .ok (.iconst (-1), 1) := dk_2 (dk_at dksX8_next_0 4 rfl rfl)
theorem dX8_next_5 : decode cX8_next 5 = .ok (.if_icmp .eq 5, 3) := dk_159 0 5 (dk_at dksX8_next_0 5 rfl rfl)
theorem dX8_next_8 : decode cX8_next 8 = .ok (.iconst 0, 1) := dk_3 (dk_at dksX8_next_0 8 rfl rfl)
theorem dX8_next_9 : decode cX8_next 9 = .ok (.ireturn, 1) := dk_172 (dk_at dksX8_next_0 9 rfl rfl)
theorem dX8_next_10 : decode cX8_next 10 = .ok (.aload_n 0, 1) := dk_42 (dk_at dksX8_next_0 10 rfl rfl)
theorem dX8_next_11 : decode cX8_next 11 = .ok (.getfield 46, 3) := dk_180 0 46 (dk_at dksX8_next_0 11 rfl rfl)
theorem dX8_next_14 : decode cX8_next 14 = .ok (.ifCond .le 20, 3) := dk_158 0 20 (dk_at dksX8_next_0 14 rfl rfl)
theorem dX8_next_17 : decode cX8_next 17 = .ok (.aload_n 0, 1) := dk_42 (dk_at dksX8_next_0 17 rfl rfl)
theorem dX8_next_18 : decode cX8_next 18 = .ok (.invokevirtual 80, 3) := dk_182 0 80 (dk_at dksX8_next_0 18 rfl rfl)
theorem dX8_next_21 : decode cX8_next 21 = .ok (.ifCond .le 13, 3) := dk_158 0 13 (dk_at dksX8_next_0 21 rfl rfl)
theorem dX8_next_24 : decode cX8_next 24 = .ok (.aload_n 0, 1) := dk_42 (dk_at dksX8_next_1 0 rfl rfl)
theorem dX8_next_25 : decode cX8_next 25 = .ok (.getfield 49, 3) := dk_180 0 49 (dk_at dksX8_next_1 1 rfl rfl)
theorem dX8_next_28 : decode cX8_next 28 = .ok (.iload_n 2, 1) := dk_28 (dk_at dksX8_next_1 4 rfl rfl)
theorem dX8_next_29 : decode cX8_next 29 = .ok (.if_icmp .ge 5, 3) := dk_162 0 5 (dk_at dksX8_next_1 5 rfl rfl)
theorem dX8_next_32 : decode cX8_next 32 = .ok (.iconst 1, 1) := dk_4 (dk_at dksX8_next_1 8 rfl rfl)
theorem dX8_next_33 : decode cX8_next 33 = .ok (.ireturn, 1) := dk_172 (dk_at dksX8_next_1 9 rfl rfl)
theorem dX8_next_34 : decode cX8_next 34 = .ok (.aload_n 0, 1) := dk_42 (dk_at dksX8_next_1 10 rfl rfl)
theorem dX8_next_35 : decode cX8_next 35 = .ok (.getfield 46, 3) := dk_180 0 46 (dk_at dksX8_next_1 11 rfl rfl)
theorem dX8_next_38 : decode cX8_next 38 = .ok (.iload_n 1, 1) := dk_27 (dk_at dksX8_next_1 14 rfl rfl)
theorem dX8_next_39 : decode cX8_next 39 = .ok (.iconst 1, 1) := dk_4 (dk_at dksX8_next_1 15 rfl rfl)
theorem dX8_next_40 : decode cX8_next 40 = .ok (.isub, 1) := dk_100 (dk_at dksX8_next_1 16 rfl rfl)
theorem dX8_next_41 : decode cX8_next 41 = .ok (.if_icmp .ge 7, 3) := dk_162 0 7 (dk_at dksX8_next_1 17 rfl rfl)
theorem dX8_next_44 : decode cX8_next 44 = .ok (.iconst 2, 1) := dk_5 (dk_at dksX8_next_1 20 rfl rfl)
theorem dX8_next_45 : decode cX8_next 45 = .ok (.goto 4, 3) := dk_167 0 4 (dk_at dksX8_next_1 21 rfl rfl)
theorem dX8_next_48 : decode cX8_next 48 = .ok (.iconst 3, 1) := dk_6 (dk_at dksX8_next_2 0 rfl rfl)
theorem dX8_next_49 : decode cX8_next 49 = .ok (.ireturn, 1) := dk_172 (dk_at dksX8_next_2 1 rfl rfl)
abbrev cX8_length : ByteArray := prog_5_method_5_code
def yX8_length : MethodName := ⟨RX8, "length", "()I"⟩
def dkwX8_length_0 : List UInt8 := [42, 180, 0, 18, 190, 172]
abbrev dktX8_length_0 : List UInt8 := dkwX8_length_0 ++ []
theorem dksX8_length_0 : cX8_length.data.toList.drop 0 = dktX8_length_0 := by decide +kernel
theorem dX8_length_0 : decode cX8_length 0 = .ok (.aload_n 0, 1) := dk_42 (dk_at dksX8_length_0 0 rfl rfl)
theorem dX8_length_1 : decode cX8_length 1 = .ok (.getfield 18, 3) := dk_180 0 18 (dk_at dksX8_length_0 1 rfl rfl)
theorem dX8_length_4 : decode cX8_length 4 = .ok (.arraylength, 1) := dk_190 (dk_at dksX8_length_0 4 rfl rfl)
theorem dX8_length_5 : decode cX8_length 5 = .ok (.ireturn, 1) := dk_172 (dk_at dksX8_length_0 5 rfl rfl)
abbrev cX8_gets : ByteArray := prog_5_method_8_code
def yX8_gets : MethodName := ⟨RX8, "gets", "(LVotingHuts$Wires;III)V"⟩
def dkwX8_gets_3 : List UInt8 := [167, 255, 190, 42, 180, 0, 24, 29, 50, 21, 4, 42, 29, 21, 4, 182, 0, 68, 79, 177]
abbrev dktX8_gets_3 : List UInt8 := dkwX8_gets_3 ++ []
def dkwX8_gets_2 : List UInt8 := [180, 0, 46, 4, 100, 21, 5, 29, 184, 0, 59, 28, 21, 4, 21, 6, 182, 0, 62, 79, 132, 5, 1]
abbrev dktX8_gets_2 : List UInt8 := dkwX8_gets_2 ++ dktX8_gets_3
def dkwX8_gets_1 : List UInt8 := [180, 0, 30, 6, 29, 104, 21, 5, 96, 50, 21, 4, 21, 6, 2, 160, 0, 7, 2, 167, 0, 24, 43, 42]
abbrev dktX8_gets_1 : List UInt8 := dkwX8_gets_1 ++ dktX8_gets_2
def dkwX8_gets_0 : List UInt8 := [3, 54, 5, 21, 5, 6, 162, 0, 66, 42, 180, 0, 27, 21, 5, 50, 21, 4, 46, 54, 6, 42]
abbrev dktX8_gets_0 : List UInt8 := dkwX8_gets_0 ++ dktX8_gets_1
theorem dksX8_gets_0 : cX8_gets.data.toList.drop 0 = dktX8_gets_0 := by decide +kernel
theorem dksX8_gets_1 : cX8_gets.data.toList.drop 22 = dktX8_gets_1 := dk_seg dksX8_gets_0 22 rfl rfl
theorem dksX8_gets_2 : cX8_gets.data.toList.drop 46 = dktX8_gets_2 := dk_seg dksX8_gets_1 24 rfl rfl
theorem dksX8_gets_3 : cX8_gets.data.toList.drop 69 = dktX8_gets_3 := dk_seg dksX8_gets_2 23 rfl rfl
theorem dX8_gets_0 : decode cX8_gets 0 = .ok (.iconst 0, 1) := dk_3 (dk_at dksX8_gets_0 0 rfl rfl)
theorem dX8_gets_1 : decode cX8_gets 1 = .ok (.istore 5, 2) := dk_54 5 (dk_at dksX8_gets_0 1 rfl rfl)
theorem dX8_gets_3 : decode cX8_gets 3 = .ok (.iload 5, 2) := dk_21 5 (dk_at dksX8_gets_0 3 rfl rfl)
theorem dX8_gets_5 : decode cX8_gets 5 = .ok (.iconst 3, 1) := dk_6 (dk_at dksX8_gets_0 5 rfl rfl)
theorem dX8_gets_6 : decode cX8_gets 6 = .ok (.if_icmp .ge 66, 3) := dk_162 0 66 (dk_at dksX8_gets_0 6 rfl rfl)
theorem dX8_gets_9 : decode cX8_gets 9 = .ok (.aload_n 0, 1) := dk_42 (dk_at dksX8_gets_0 9 rfl rfl)
theorem dX8_gets_10 : decode cX8_gets 10 = .ok (.getfield 27, 3) := dk_180 0 27 (dk_at dksX8_gets_0 10 rfl rfl)
theorem dX8_gets_13 : decode cX8_gets 13 = .ok (.iload 5, 2) := dk_21 5 (dk_at dksX8_gets_0 13 rfl rfl)
theorem dX8_gets_15 : decode cX8_gets 15 = .ok (.aaload, 1) := dk_50 (dk_at dksX8_gets_0 15 rfl rfl)
theorem dX8_gets_16 : decode cX8_gets 16 = .ok (.iload 4, 2) := dk_21 4 (dk_at dksX8_gets_0 16 rfl rfl)
theorem dX8_gets_18 : decode cX8_gets 18 = .ok (.iaload, 1) := dk_46 (dk_at dksX8_gets_0 18 rfl rfl)
theorem dX8_gets_19 : decode cX8_gets 19 = .ok (.istore 6, 2) := dk_54 6 (dk_at dksX8_gets_0 19 rfl rfl)
theorem dX8_gets_21 : decode cX8_gets 21 = .ok (.aload_n 0, 1) := dk_42 (dk_at dksX8_gets_0 21 rfl rfl)
theorem dX8_gets_22 : decode cX8_gets 22 = .ok (.getfield 30, 3) := dk_180 0 30 (dk_at dksX8_gets_1 0 rfl rfl)
theorem dX8_gets_25 : decode cX8_gets 25 = .ok (.iconst 3, 1) := dk_6 (dk_at dksX8_gets_1 3 rfl rfl)
theorem dX8_gets_26 : decode cX8_gets 26 = .ok (.iload_n 3, 1) := dk_29 (dk_at dksX8_gets_1 4 rfl rfl)
theorem dX8_gets_27 : decode cX8_gets 27 = .ok (.imul, 1) := dk_104 (dk_at dksX8_gets_1 5 rfl rfl)
theorem dX8_gets_28 : decode cX8_gets 28 = .ok (.iload 5, 2) := dk_21 5 (dk_at dksX8_gets_1 6 rfl rfl)
theorem dX8_gets_30 : decode cX8_gets 30 = .ok (.iadd, 1) := dk_96 (dk_at dksX8_gets_1 8 rfl rfl)
theorem dX8_gets_31 : decode cX8_gets 31 = .ok (.aaload, 1) := dk_50 (dk_at dksX8_gets_1 9 rfl rfl)
theorem dX8_gets_32 : decode cX8_gets 32 = .ok (.iload 4, 2) := dk_21 4 (dk_at dksX8_gets_1 10 rfl rfl)
theorem dX8_gets_34 : decode cX8_gets 34 = .ok (.iload 6, 2) := dk_21 6 (dk_at dksX8_gets_1 12 rfl rfl)
theorem dX8_gets_36 : decode cX8_gets 36 = .ok (.iconst (-1), 1) := dk_2 (dk_at dksX8_gets_1 14 rfl rfl)
theorem dX8_gets_37 : decode cX8_gets 37 = .ok (.if_icmp .ne 7, 3) := dk_160 0 7 (dk_at dksX8_gets_1 15 rfl rfl)
theorem dX8_gets_40 : decode cX8_gets 40 = .ok (.iconst (-1), 1) := dk_2 (dk_at dksX8_gets_1 18 rfl rfl)
theorem dX8_gets_41 : decode cX8_gets 41 = .ok (.goto 24, 3) := dk_167 0 24 (dk_at dksX8_gets_1 19 rfl rfl)
theorem dX8_gets_44 : decode cX8_gets 44 = .ok (.aload_n 1, 1) := dk_43 (dk_at dksX8_gets_1 22 rfl rfl)
theorem dX8_gets_45 : decode cX8_gets 45 = .ok (.aload_n 0, 1) := dk_42 (dk_at dksX8_gets_1 23 rfl rfl)
theorem dX8_gets_46 : decode cX8_gets 46 = .ok (.getfield 46, 3) := dk_180 0 46 (dk_at dksX8_gets_2 0 rfl rfl)
theorem dX8_gets_49 : decode cX8_gets 49 = .ok (.iconst 1, 1) := dk_4 (dk_at dksX8_gets_2 3 rfl rfl)
theorem dX8_gets_50 : decode cX8_gets 50 = .ok (.isub, 1) := dk_100 (dk_at dksX8_gets_2 4 rfl rfl)
theorem dX8_gets_51 : decode cX8_gets 51 = .ok (.iload 5, 2) := dk_21 5 (dk_at dksX8_gets_2 5 rfl rfl)
theorem dX8_gets_53 : decode cX8_gets 53 = .ok (.iload_n 3, 1) := dk_29 (dk_at dksX8_gets_2 7 rfl rfl)
theorem dX8_gets_54 : decode cX8_gets 54 = .ok (.invokestatic 59, 3) := dk_184 0 59 (dk_at dksX8_gets_2 8 rfl rfl)
theorem dX8_gets_57 : decode cX8_gets 57 = .ok (.iload_n 2, 1) := dk_28 (dk_at dksX8_gets_2 11 rfl rfl)
theorem dX8_gets_58 : decode cX8_gets 58 = .ok (.iload 4, 2) := dk_21 4 (dk_at dksX8_gets_2 12 rfl rfl)
theorem dX8_gets_60 : decode cX8_gets 60 = .ok (.iload 6, 2) := dk_21 6 (dk_at dksX8_gets_2 14 rfl rfl)
theorem dX8_gets_62 : decode cX8_gets 62 = .ok (.invokevirtual 62, 3) := dk_182 0 62 (dk_at dksX8_gets_2 16 rfl rfl)
theorem dX8_gets_65 : decode cX8_gets 65 = .ok (.iastore, 1) := dk_79 (dk_at dksX8_gets_2 19 rfl rfl)
theorem dX8_gets_66 : decode cX8_gets 66 = .ok (.iinc 5 1, 3) := dk_132 5 1 (dk_at dksX8_gets_2 20 rfl rfl)
theorem dX8_gets_69 : decode cX8_gets 69 = .ok (.goto (-66), 3) := dk_167 255 190 (dk_at dksX8_gets_3 0 rfl rfl)
theorem dX8_gets_72 : decode cX8_gets 72 = .ok (.aload_n 0, 1) := dk_42 (dk_at dksX8_gets_3 3 rfl rfl)
theorem dX8_gets_73 : decode cX8_gets 73 = .ok (.getfield 24, 3) := dk_180 0 24 (dk_at dksX8_gets_3 4 rfl rfl)
theorem dX8_gets_76 : decode cX8_gets 76 = .ok (.iload_n 3, 1) := dk_29 (dk_at dksX8_gets_3 7 rfl rfl)
theorem dX8_gets_77 : decode cX8_gets 77 = .ok (.aaload, 1) := dk_50 (dk_at dksX8_gets_3 8 rfl rfl)
theorem dX8_gets_78 : decode cX8_gets 78 = .ok (.iload 4, 2) := dk_21 4 (dk_at dksX8_gets_3 9 rfl rfl)
theorem dX8_gets_80 : decode cX8_gets 80 = .ok (.aload_n 0, 1) := dk_42 (dk_at dksX8_gets_3 11 rfl rfl)
theorem dX8_gets_81 : decode cX8_gets 81 = .ok (.iload_n 3, 1) := dk_29 (dk_at dksX8_gets_3 12 rfl rfl)
theorem dX8_gets_82 : decode cX8_gets 82 = .ok (.iload 4, 2) := dk_21 4 (dk_at dksX8_gets_3 13 rfl rfl)
theorem dX8_gets_84 : decode cX8_gets 84 = .ok (.invokevirtual 68, 3) := dk_182 0 68 (dk_at dksX8_gets_3 15 rfl rfl)
theorem dX8_gets_87 : decode cX8_gets 87 = .ok (.iastore, 1) := dk_79 (dk_at dksX8_gets_3 18 rfl rfl)
theorem dX8_gets_88 : decode cX8_gets 88 = .ok (.return_, 1) := dk_177 (dk_at dksX8_gets_3 19 rfl rfl)
abbrev cX8_voted : ByteArray := prog_5_method_7_code
def yX8_voted : MethodName := ⟨RX8, "voted", "(II)I"⟩
def dkwX8_voted_1 : List UInt8 := [172]
abbrev dktX8_voted_1 : List UInt8 := dkwX8_voted_1 ++ []
def dkwX8_voted_0 : List UInt8 := [42, 27, 28, 3, 182, 0, 52, 42, 27, 28, 4, 182, 0, 52, 42, 27, 28, 5, 182, 0, 52, 184, 0, 56]
abbrev dktX8_voted_0 : List UInt8 := dkwX8_voted_0 ++ dktX8_voted_1
theorem dksX8_voted_0 : cX8_voted.data.toList.drop 0 = dktX8_voted_0 := by decide +kernel
theorem dksX8_voted_1 : cX8_voted.data.toList.drop 24 = dktX8_voted_1 := dk_seg dksX8_voted_0 24 rfl rfl
theorem dX8_voted_0 : decode cX8_voted 0 = .ok (.aload_n 0, 1) := dk_42 (dk_at dksX8_voted_0 0 rfl rfl)
theorem dX8_voted_1 : decode cX8_voted 1 = .ok (.iload_n 1, 1) := dk_27 (dk_at dksX8_voted_0 1 rfl rfl)
theorem dX8_voted_2 : decode cX8_voted 2 = .ok (.iload_n 2, 1) := dk_28 (dk_at dksX8_voted_0 2 rfl rfl)
theorem dX8_voted_3 : decode cX8_voted 3 = .ok (.iconst 0, 1) := dk_3 (dk_at dksX8_voted_0 3 rfl rfl)
theorem dX8_voted_4 : decode cX8_voted 4 = .ok (.invokevirtual 52, 3) := dk_182 0 52 (dk_at dksX8_voted_0 4 rfl rfl)
theorem dX8_voted_7 : decode cX8_voted 7 = .ok (.aload_n 0, 1) := dk_42 (dk_at dksX8_voted_0 7 rfl rfl)
theorem dX8_voted_8 : decode cX8_voted 8 = .ok (.iload_n 1, 1) := dk_27 (dk_at dksX8_voted_0 8 rfl rfl)
theorem dX8_voted_9 : decode cX8_voted 9 = .ok (.iload_n 2, 1) := dk_28 (dk_at dksX8_voted_0 9 rfl rfl)
theorem dX8_voted_10 : decode cX8_voted 10 = .ok (.iconst 1, 1) := dk_4 (dk_at dksX8_voted_0 10 rfl rfl)
theorem dX8_voted_11 : decode cX8_voted 11 = .ok (.invokevirtual 52, 3) := dk_182 0 52 (dk_at dksX8_voted_0 11 rfl rfl)
theorem dX8_voted_14 : decode cX8_voted 14 = .ok (.aload_n 0, 1) := dk_42 (dk_at dksX8_voted_0 14 rfl rfl)
theorem dX8_voted_15 : decode cX8_voted 15 = .ok (.iload_n 1, 1) := dk_27 (dk_at dksX8_voted_0 15 rfl rfl)
theorem dX8_voted_16 : decode cX8_voted 16 = .ok (.iload_n 2, 1) := dk_28 (dk_at dksX8_voted_0 16 rfl rfl)
theorem dX8_voted_17 : decode cX8_voted 17 = .ok (.iconst 2, 1) := dk_5 (dk_at dksX8_voted_0 17 rfl rfl)
theorem dX8_voted_18 : decode cX8_voted 18 = .ok (.invokevirtual 52, 3) := dk_182 0 52 (dk_at dksX8_voted_0 18 rfl rfl)
theorem dX8_voted_21 : decode cX8_voted 21 = .ok (.invokestatic 56, 3) := dk_184 0 56 (dk_at dksX8_voted_0 21 rfl rfl)
theorem dX8_voted_24 : decode cX8_voted 24 = .ok (.ireturn, 1) := dk_172 (dk_at dksX8_voted_1 0 rfl rfl)
abbrev cX8_copy : ByteArray := prog_5_method_6_code
def yX8_copy : MethodName := ⟨RX8, "copy", "(III)I"⟩
def dkwX8_copy_0 : List UInt8 := [42, 180, 0, 30, 6, 27, 104, 29, 96, 50, 28, 46, 172]
abbrev dktX8_copy_0 : List UInt8 := dkwX8_copy_0 ++ []
theorem dksX8_copy_0 : cX8_copy.data.toList.drop 0 = dktX8_copy_0 := by decide +kernel
theorem dX8_copy_0 : decode cX8_copy 0 = .ok (.aload_n 0, 1) := dk_42 (dk_at dksX8_copy_0 0 rfl rfl)
theorem dX8_copy_1 : decode cX8_copy 1 = .ok (.getfield 30, 3) := dk_180 0 30 (dk_at dksX8_copy_0 1 rfl rfl)
theorem dX8_copy_4 : decode cX8_copy 4 = .ok (.iconst 3, 1) := dk_6 (dk_at dksX8_copy_0 4 rfl rfl)
theorem dX8_copy_5 : decode cX8_copy 5 = .ok (.iload_n 1, 1) := dk_27 (dk_at dksX8_copy_0 5 rfl rfl)
theorem dX8_copy_6 : decode cX8_copy 6 = .ok (.imul, 1) := dk_104 (dk_at dksX8_copy_0 6 rfl rfl)
theorem dX8_copy_7 : decode cX8_copy 7 = .ok (.iload_n 3, 1) := dk_29 (dk_at dksX8_copy_0 7 rfl rfl)
theorem dX8_copy_8 : decode cX8_copy 8 = .ok (.iadd, 1) := dk_96 (dk_at dksX8_copy_0 8 rfl rfl)
theorem dX8_copy_9 : decode cX8_copy 9 = .ok (.aaload, 1) := dk_50 (dk_at dksX8_copy_0 9 rfl rfl)
theorem dX8_copy_10 : decode cX8_copy 10 = .ok (.iload_n 2, 1) := dk_28 (dk_at dksX8_copy_0 10 rfl rfl)
theorem dX8_copy_11 : decode cX8_copy 11 = .ok (.iaload, 1) := dk_46 (dk_at dksX8_copy_0 11 rfl rfl)
theorem dX8_copy_12 : decode cX8_copy 12 = .ok (.ireturn, 1) := dk_172 (dk_at dksX8_copy_0 12 rfl rfl)
abbrev cX8_takes : ByteArray := prog_5_method_4_code
def yX8_takes : MethodName := ⟨RX8, "takes", "([[I[[I)V"⟩
def dkwX8_takes_1 : List UInt8 := [132, 2, 1, 167, 255, 232, 177]
abbrev dktX8_takes_1 : List UInt8 := dkwX8_takes_1 ++ []
def dkwX8_takes_0 : List UInt8 := [3, 61, 28, 42, 190, 162, 0, 24, 42, 28, 50, 3, 43, 28, 50, 3, 42, 28, 50, 190, 184, 0, 36]
abbrev dktX8_takes_0 : List UInt8 := dkwX8_takes_0 ++ dktX8_takes_1
theorem dksX8_takes_0 : cX8_takes.data.toList.drop 0 = dktX8_takes_0 := by decide +kernel
theorem dksX8_takes_1 : cX8_takes.data.toList.drop 23 = dktX8_takes_1 := dk_seg dksX8_takes_0 23 rfl rfl
theorem dX8_takes_0 : decode cX8_takes 0 = .ok (.iconst 0, 1) := dk_3 (dk_at dksX8_takes_0 0 rfl rfl)
theorem dX8_takes_1 : decode cX8_takes 1 = .ok (.istore_n 2, 1) := dk_61 (dk_at dksX8_takes_0 1 rfl rfl)
theorem dX8_takes_2 : decode cX8_takes 2 = .ok (.iload_n 2, 1) := dk_28 (dk_at dksX8_takes_0 2 rfl rfl)
theorem dX8_takes_3 : decode cX8_takes 3 = .ok (.aload_n 0, 1) := dk_42 (dk_at dksX8_takes_0 3 rfl rfl)
theorem dX8_takes_4 : decode cX8_takes 4 = .ok (.arraylength, 1) := dk_190 (dk_at dksX8_takes_0 4 rfl rfl)
theorem dX8_takes_5 : decode cX8_takes 5 = .ok (.if_icmp .ge 24, 3) := dk_162 0 24 (dk_at dksX8_takes_0 5 rfl rfl)
theorem dX8_takes_8 : decode cX8_takes 8 = .ok (.aload_n 0, 1) := dk_42 (dk_at dksX8_takes_0 8 rfl rfl)
theorem dX8_takes_9 : decode cX8_takes 9 = .ok (.iload_n 2, 1) := dk_28 (dk_at dksX8_takes_0 9 rfl rfl)
theorem dX8_takes_10 : decode cX8_takes 10 = .ok (.aaload, 1) := dk_50 (dk_at dksX8_takes_0 10 rfl rfl)
theorem dX8_takes_11 : decode cX8_takes 11 = .ok (.iconst 0, 1) := dk_3 (dk_at dksX8_takes_0 11 rfl rfl)
theorem dX8_takes_12 : decode cX8_takes 12 = .ok (.aload_n 1, 1) := dk_43 (dk_at dksX8_takes_0 12 rfl rfl)
theorem dX8_takes_13 : decode cX8_takes 13 = .ok (.iload_n 2, 1) := dk_28 (dk_at dksX8_takes_0 13 rfl rfl)
theorem dX8_takes_14 : decode cX8_takes 14 = .ok (.aaload, 1) := dk_50 (dk_at dksX8_takes_0 14 rfl rfl)
theorem dX8_takes_15 : decode cX8_takes 15 = .ok (.iconst 0, 1) := dk_3 (dk_at dksX8_takes_0 15 rfl rfl)
theorem dX8_takes_16 : decode cX8_takes 16 = .ok (.aload_n 0, 1) := dk_42 (dk_at dksX8_takes_0 16 rfl rfl)
theorem dX8_takes_17 : decode cX8_takes 17 = .ok (.iload_n 2, 1) := dk_28 (dk_at dksX8_takes_0 17 rfl rfl)
theorem dX8_takes_18 : decode cX8_takes 18 = .ok (.aaload, 1) := dk_50 (dk_at dksX8_takes_0 18 rfl rfl)
theorem dX8_takes_19 : decode cX8_takes 19 = .ok (.arraylength, 1) := dk_190 (dk_at dksX8_takes_0 19 rfl rfl)
theorem dX8_takes_20 : decode cX8_takes 20 = .ok (.invokestatic 36, 3) := dk_184 0 36 (dk_at dksX8_takes_0 20 rfl rfl)
theorem dX8_takes_23 : decode cX8_takes 23 = .ok (.iinc 2 1, 3) := dk_132 2 1 (dk_at dksX8_takes_1 0 rfl rfl)
theorem dX8_takes_26 : decode cX8_takes 26 = .ok (.goto (-24), 3) := dk_167 255 232 (dk_at dksX8_takes_1 3 rfl rfl)
theorem dX8_takes_29 : decode cX8_takes 29 = .ok (.return_, 1) := dk_177 (dk_at dksX8_takes_1 6 rfl rfl)
abbrev cX8_wrong : ByteArray := prog_5_method_13_code
def yX8_wrong : MethodName := ⟨RX8, "wrong", "(I)I"⟩
def dkwX8_wrong_2 : List UInt8 := [3, 184, 0, 72, 96, 61, 132, 3, 1, 167, 255, 205, 28, 172]
abbrev dktX8_wrong_2 : List UInt8 := dkwX8_wrong_2 ++ []
def dkwX8_wrong_1 : List UInt8 := [159, 0, 24, 42, 180, 0, 24, 27, 50, 29, 46, 42, 180, 0, 18, 29, 46, 159, 0, 7, 4, 167, 0, 4]
abbrev dktX8_wrong_1 : List UInt8 := dkwX8_wrong_1 ++ dktX8_wrong_2
def dkwX8_wrong_0 : List UInt8 := [3, 61, 3, 62, 29, 42, 182, 0, 86, 162, 0, 49, 28, 42, 180, 0, 24, 27, 50, 29, 46, 2]
abbrev dktX8_wrong_0 : List UInt8 := dkwX8_wrong_0 ++ dktX8_wrong_1
theorem dksX8_wrong_0 : cX8_wrong.data.toList.drop 0 = dktX8_wrong_0 := by decide +kernel
theorem dksX8_wrong_1 : cX8_wrong.data.toList.drop 22 = dktX8_wrong_1 := dk_seg dksX8_wrong_0 22 rfl rfl
theorem dksX8_wrong_2 : cX8_wrong.data.toList.drop 46 = dktX8_wrong_2 := dk_seg dksX8_wrong_1 24 rfl rfl
theorem dX8_wrong_0 : decode cX8_wrong 0 = .ok (.iconst 0, 1) := dk_3 (dk_at dksX8_wrong_0 0 rfl rfl)
theorem dX8_wrong_1 : decode cX8_wrong 1 = .ok (.istore_n 2, 1) := dk_61 (dk_at dksX8_wrong_0 1 rfl rfl)
theorem dX8_wrong_2 : decode cX8_wrong 2 = .ok (.iconst 0, 1) := dk_3 (dk_at dksX8_wrong_0 2 rfl rfl)
theorem dX8_wrong_3 : decode cX8_wrong 3 = .ok (.istore_n 3, 1) := dk_62 (dk_at dksX8_wrong_0 3 rfl rfl)
theorem dX8_wrong_4 : decode cX8_wrong 4 = .ok (.iload_n 3, 1) := dk_29 (dk_at dksX8_wrong_0 4 rfl rfl)
theorem dX8_wrong_5 : decode cX8_wrong 5 = .ok (.aload_n 0, 1) := dk_42 (dk_at dksX8_wrong_0 5 rfl rfl)
theorem dX8_wrong_6 : decode cX8_wrong 6 = .ok (.invokevirtual 86, 3) := dk_182 0 86 (dk_at dksX8_wrong_0 6 rfl rfl)
theorem dX8_wrong_9 : decode cX8_wrong 9 = .ok (.if_icmp .ge 49, 3) := dk_162 0 49 (dk_at dksX8_wrong_0 9 rfl rfl)
theorem dX8_wrong_12 : decode cX8_wrong 12 = .ok (.iload_n 2, 1) := dk_28 (dk_at dksX8_wrong_0 12 rfl rfl)
theorem dX8_wrong_13 : decode cX8_wrong 13 = .ok (.aload_n 0, 1) := dk_42 (dk_at dksX8_wrong_0 13 rfl rfl)
theorem dX8_wrong_14 : decode cX8_wrong 14 = .ok (.getfield 24, 3) := dk_180 0 24 (dk_at dksX8_wrong_0 14 rfl rfl)
theorem dX8_wrong_17 : decode cX8_wrong 17 = .ok (.iload_n 1, 1) := dk_27 (dk_at dksX8_wrong_0 17 rfl rfl)
theorem dX8_wrong_18 : decode cX8_wrong 18 = .ok (.aaload, 1) := dk_50 (dk_at dksX8_wrong_0 18 rfl rfl)
theorem dX8_wrong_19 : decode cX8_wrong 19 = .ok (.iload_n 3, 1) := dk_29 (dk_at dksX8_wrong_0 19 rfl rfl)
theorem dX8_wrong_20 : decode cX8_wrong 20 = .ok (.iaload, 1) := dk_46 (dk_at dksX8_wrong_0 20 rfl rfl)
theorem dX8_wrong_21 : decode cX8_wrong 21 = .ok (.iconst (-1), 1) := dk_2 (dk_at dksX8_wrong_0 21 rfl rfl)
theorem dX8_wrong_22 : decode cX8_wrong 22 = .ok (.if_icmp .eq 24, 3) := dk_159 0 24 (dk_at dksX8_wrong_1 0 rfl rfl)
theorem dX8_wrong_25 : decode cX8_wrong 25 = .ok (.aload_n 0, 1) := dk_42 (dk_at dksX8_wrong_1 3 rfl rfl)
theorem dX8_wrong_26 : decode cX8_wrong 26 = .ok (.getfield 24, 3) := dk_180 0 24 (dk_at dksX8_wrong_1 4 rfl rfl)
theorem dX8_wrong_29 : decode cX8_wrong 29 = .ok (.iload_n 1, 1) := dk_27 (dk_at dksX8_wrong_1 7 rfl rfl)
theorem dX8_wrong_30 : decode cX8_wrong 30 = .ok (.aaload, 1) := dk_50 (dk_at dksX8_wrong_1 8 rfl rfl)
theorem dX8_wrong_31 : decode cX8_wrong 31 = .ok (.iload_n 3, 1) := dk_29 (dk_at dksX8_wrong_1 9 rfl rfl)
theorem dX8_wrong_32 : decode cX8_wrong 32 = .ok (.iaload, 1) := dk_46 (dk_at dksX8_wrong_1 10 rfl rfl)
theorem dX8_wrong_33 : decode cX8_wrong 33 = .ok (.aload_n 0, 1) := dk_42 (dk_at dksX8_wrong_1 11 rfl rfl)
theorem dX8_wrong_34 : decode cX8_wrong 34 = .ok (.getfield 18, 3) := dk_180 0 18 (dk_at dksX8_wrong_1 12 rfl rfl)
theorem dX8_wrong_37 : decode cX8_wrong 37 = .ok (.iload_n 3, 1) := dk_29 (dk_at dksX8_wrong_1 15 rfl rfl)
theorem dX8_wrong_38 : decode cX8_wrong 38 = .ok (.iaload, 1) := dk_46 (dk_at dksX8_wrong_1 16 rfl rfl)
theorem dX8_wrong_39 : decode cX8_wrong 39 = .ok (.if_icmp .eq 7, 3) := dk_159 0 7 (dk_at dksX8_wrong_1 17 rfl rfl)
theorem dX8_wrong_42 : decode cX8_wrong 42 = .ok (.iconst 1, 1) := dk_4 (dk_at dksX8_wrong_1 20 rfl rfl)
theorem dX8_wrong_43 : decode cX8_wrong 43 = .ok (.goto 4, 3) := dk_167 0 4 (dk_at dksX8_wrong_1 21 rfl rfl)
theorem dX8_wrong_46 : decode cX8_wrong 46 = .ok (.iconst 0, 1) := dk_3 (dk_at dksX8_wrong_2 0 rfl rfl)
theorem dX8_wrong_47 : decode cX8_wrong 47 = .ok (.invokestatic 72, 3) := dk_184 0 72 (dk_at dksX8_wrong_2 1 rfl rfl)
theorem dX8_wrong_50 : decode cX8_wrong 50 = .ok (.iadd, 1) := dk_96 (dk_at dksX8_wrong_2 4 rfl rfl)
theorem dX8_wrong_51 : decode cX8_wrong 51 = .ok (.istore_n 2, 1) := dk_61 (dk_at dksX8_wrong_2 5 rfl rfl)
theorem dX8_wrong_52 : decode cX8_wrong 52 = .ok (.iinc 3 1, 3) := dk_132 3 1 (dk_at dksX8_wrong_2 6 rfl rfl)
theorem dX8_wrong_55 : decode cX8_wrong 55 = .ok (.goto (-51), 3) := dk_167 255 205 (dk_at dksX8_wrong_2 9 rfl rfl)
theorem dX8_wrong_58 : decode cX8_wrong 58 = .ok (.iload_n 2, 1) := dk_28 (dk_at dksX8_wrong_2 12 rfl rfl)
theorem dX8_wrong_59 : decode cX8_wrong 59 = .ok (.ireturn, 1) := dk_172 (dk_at dksX8_wrong_2 13 rfl rfl)
abbrev cX8_vote : ByteArray := prog_5_method_14_code
def yX8_vote : MethodName := ⟨RX8, "vote", "(II)I"⟩
def dkwX8_vote_5 : List UInt8 := [172]
abbrev dktX8_vote_5 : List UInt8 := dkwX8_vote_5 ++ []
def dkwX8_vote_4 : List UInt8 := [167, 255, 223, 21, 4, 6, 160, 0, 7, 6, 167, 0, 14, 21, 4, 5, 160, 0, 7, 7, 167, 0, 4, 8]
abbrev dktX8_vote_4 : List UInt8 := dkwX8_vote_4 ++ dktX8_vote_5
def dkwX8_vote_3 : List UInt8 := [27, 28, 21, 5, 182, 0, 52, 155, 0, 7, 4, 167, 0, 4, 3, 184, 0, 72, 96, 54, 4, 132, 5, 1]
abbrev dktX8_vote_3 : List UInt8 := dkwX8_vote_3 ++ dktX8_vote_4
def dkwX8_vote_2 : List UInt8 := [182, 0, 52, 160, 0, 7, 4, 167, 0, 4, 5, 172, 3, 54, 5, 21, 5, 6, 162, 0, 33, 21, 4, 42]
abbrev dktX8_vote_2 : List UInt8 := dkwX8_vote_2 ++ dktX8_vote_3
def dkwX8_vote_1 : List UInt8 := [182, 0, 68, 2, 159, 0, 31, 29, 42, 27, 28, 4, 182, 0, 52, 160, 0, 18, 29, 42, 27, 28, 5]
abbrev dktX8_vote_1 : List UInt8 := dkwX8_vote_1 ++ dktX8_vote_2
def dkwX8_vote_0 : List UInt8 := [42, 180, 0, 46, 154, 0, 5, 3, 172, 42, 27, 28, 3, 182, 0, 52, 62, 3, 54, 4, 42, 27, 28]
abbrev dktX8_vote_0 : List UInt8 := dkwX8_vote_0 ++ dktX8_vote_1
theorem dksX8_vote_0 : cX8_vote.data.toList.drop 0 = dktX8_vote_0 := by decide +kernel
theorem dksX8_vote_1 : cX8_vote.data.toList.drop 23 = dktX8_vote_1 := dk_seg dksX8_vote_0 23 rfl rfl
theorem dksX8_vote_2 : cX8_vote.data.toList.drop 46 = dktX8_vote_2 := dk_seg dksX8_vote_1 23 rfl rfl
theorem dksX8_vote_3 : cX8_vote.data.toList.drop 70 = dktX8_vote_3 := dk_seg dksX8_vote_2 24 rfl rfl
theorem dksX8_vote_4 : cX8_vote.data.toList.drop 94 = dktX8_vote_4 := dk_seg dksX8_vote_3 24 rfl rfl
theorem dksX8_vote_5 : cX8_vote.data.toList.drop 118 = dktX8_vote_5 := dk_seg dksX8_vote_4 24 rfl rfl
theorem dX8_vote_0 : decode cX8_vote 0 = .ok (.aload_n 0, 1) := dk_42 (dk_at dksX8_vote_0 0 rfl rfl)
theorem dX8_vote_1 : decode cX8_vote 1 = .ok (.getfield 46, 3) := dk_180 0 46 (dk_at dksX8_vote_0 1 rfl rfl)
theorem dX8_vote_4 : decode cX8_vote 4 = .ok (.ifCond .ne 5, 3) := dk_154 0 5 (dk_at dksX8_vote_0 4 rfl rfl)
theorem dX8_vote_7 : decode cX8_vote 7 = .ok (.iconst 0, 1) := dk_3 (dk_at dksX8_vote_0 7 rfl rfl)
theorem dX8_vote_8 : decode cX8_vote 8 = .ok (.ireturn, 1) := dk_172 (dk_at dksX8_vote_0 8 rfl rfl)
theorem dX8_vote_9 : decode cX8_vote 9 = .ok (.aload_n 0, 1) := dk_42 (dk_at dksX8_vote_0 9 rfl rfl)
theorem dX8_vote_10 : decode cX8_vote 10 = .ok (.iload_n 1, 1) := dk_27 (dk_at dksX8_vote_0 10 rfl rfl)
theorem dX8_vote_11 : decode cX8_vote 11 = .ok (.iload_n 2, 1) := dk_28 (dk_at dksX8_vote_0 11 rfl rfl)
theorem dX8_vote_12 : decode cX8_vote 12 = .ok (.iconst 0, 1) := dk_3 (dk_at dksX8_vote_0 12 rfl rfl)
theorem dX8_vote_13 : decode cX8_vote 13 = .ok (.invokevirtual 52, 3) := dk_182 0 52 (dk_at dksX8_vote_0 13 rfl rfl)
theorem dX8_vote_16 : decode cX8_vote 16 = .ok (.istore_n 3, 1) := dk_62 (dk_at dksX8_vote_0 16 rfl rfl)
theorem dX8_vote_17 : decode cX8_vote 17 = .ok (.iconst 0, 1) := dk_3 (dk_at dksX8_vote_0 17 rfl rfl)
theorem dX8_vote_18 : decode cX8_vote 18 = .ok (.istore 4, 2) := dk_54 4 (dk_at dksX8_vote_0 18 rfl rfl)
theorem dX8_vote_20 : decode cX8_vote 20 = .ok (.aload_n 0, 1) := dk_42 (dk_at dksX8_vote_0 20 rfl rfl)
theorem dX8_vote_21 : decode cX8_vote 21 = .ok (.iload_n 1, 1) := dk_27 (dk_at dksX8_vote_0 21 rfl rfl)
theorem dX8_vote_22 : decode cX8_vote 22 = .ok (.iload_n 2, 1) := dk_28 (dk_at dksX8_vote_0 22 rfl rfl)
theorem dX8_vote_23 : decode cX8_vote 23 = .ok (.invokevirtual 68, 3) := dk_182 0 68 (dk_at dksX8_vote_1 0 rfl rfl)
theorem dX8_vote_26 : decode cX8_vote 26 = .ok (.iconst (-1), 1) := dk_2 (dk_at dksX8_vote_1 3 rfl rfl)
theorem dX8_vote_27 : decode cX8_vote 27 = .ok (.if_icmp .eq 31, 3) := dk_159 0 31 (dk_at dksX8_vote_1 4 rfl rfl)
theorem dX8_vote_30 : decode cX8_vote 30 = .ok (.iload_n 3, 1) := dk_29 (dk_at dksX8_vote_1 7 rfl rfl)
theorem dX8_vote_31 : decode cX8_vote 31 = .ok (.aload_n 0, 1) := dk_42 (dk_at dksX8_vote_1 8 rfl rfl)
theorem dX8_vote_32 : decode cX8_vote 32 = .ok (.iload_n 1, 1) := dk_27 (dk_at dksX8_vote_1 9 rfl rfl)
theorem dX8_vote_33 : decode cX8_vote 33 = .ok (.iload_n 2, 1) := dk_28 (dk_at dksX8_vote_1 10 rfl rfl)
theorem dX8_vote_34 : decode cX8_vote 34 = .ok (.iconst 1, 1) := dk_4 (dk_at dksX8_vote_1 11 rfl rfl)
theorem dX8_vote_35 : decode cX8_vote 35 = .ok (.invokevirtual 52, 3) := dk_182 0 52 (dk_at dksX8_vote_1 12 rfl rfl)
theorem dX8_vote_38 : decode cX8_vote 38 = .ok (.if_icmp .ne 18, 3) := dk_160 0 18 (dk_at dksX8_vote_1 15 rfl rfl)
theorem dX8_vote_41 : decode cX8_vote 41 = .ok (.iload_n 3, 1) := dk_29 (dk_at dksX8_vote_1 18 rfl rfl)
theorem dX8_vote_42 : decode cX8_vote 42 = .ok (.aload_n 0, 1) := dk_42 (dk_at dksX8_vote_1 19 rfl rfl)
theorem dX8_vote_43 : decode cX8_vote 43 = .ok (.iload_n 1, 1) := dk_27 (dk_at dksX8_vote_1 20 rfl rfl)
theorem dX8_vote_44 : decode cX8_vote 44 = .ok (.iload_n 2, 1) := dk_28 (dk_at dksX8_vote_1 21 rfl rfl)
theorem dX8_vote_45 : decode cX8_vote 45 = .ok (.iconst 2, 1) := dk_5 (dk_at dksX8_vote_1 22 rfl rfl)
theorem dX8_vote_46 : decode cX8_vote 46 = .ok (.invokevirtual 52, 3) := dk_182 0 52 (dk_at dksX8_vote_2 0 rfl rfl)
theorem dX8_vote_49 : decode cX8_vote 49 = .ok (.if_icmp .ne 7, 3) := dk_160 0 7 (dk_at dksX8_vote_2 3 rfl rfl)
theorem dX8_vote_52 : decode cX8_vote 52 = .ok (.iconst 1, 1) := dk_4 (dk_at dksX8_vote_2 6 rfl rfl)
theorem dX8_vote_53 : decode cX8_vote 53 = .ok (.goto 4, 3) := dk_167 0 4 (dk_at dksX8_vote_2 7 rfl rfl)
theorem dX8_vote_56 : decode cX8_vote 56 = .ok (.iconst 2, 1) := dk_5 (dk_at dksX8_vote_2 10 rfl rfl)
theorem dX8_vote_57 : decode cX8_vote 57 = .ok (.ireturn, 1) := dk_172 (dk_at dksX8_vote_2 11 rfl rfl)
theorem dX8_vote_58 : decode cX8_vote 58 = .ok (.iconst 0, 1) := dk_3 (dk_at dksX8_vote_2 12 rfl rfl)
theorem dX8_vote_59 : decode cX8_vote 59 = .ok (.istore 5, 2) := dk_54 5 (dk_at dksX8_vote_2 13 rfl rfl)
theorem dX8_vote_61 : decode cX8_vote 61 = .ok (.iload 5, 2) := dk_21 5 (dk_at dksX8_vote_2 15 rfl rfl)
theorem dX8_vote_63 : decode cX8_vote 63 = .ok (.iconst 3, 1) := dk_6 (dk_at dksX8_vote_2 17 rfl rfl)
theorem dX8_vote_64 : decode cX8_vote 64 = .ok (.if_icmp .ge 33, 3) := dk_162 0 33 (dk_at dksX8_vote_2 18 rfl rfl)
theorem dX8_vote_67 : decode cX8_vote 67 = .ok (.iload 4, 2) := dk_21 4 (dk_at dksX8_vote_2 21 rfl rfl)
theorem dX8_vote_69 : decode cX8_vote 69 = .ok (.aload_n 0, 1) := dk_42 (dk_at dksX8_vote_2 23 rfl rfl)
theorem dX8_vote_70 : decode cX8_vote 70 = .ok (.iload_n 1, 1) := dk_27 (dk_at dksX8_vote_3 0 rfl rfl)
theorem dX8_vote_71 : decode cX8_vote 71 = .ok (.iload_n 2, 1) := dk_28 (dk_at dksX8_vote_3 1 rfl rfl)
theorem dX8_vote_72 : decode cX8_vote 72 = .ok (.iload 5, 2) := dk_21 5 (dk_at dksX8_vote_3 2 rfl rfl)
theorem dX8_vote_74 : decode cX8_vote 74 = .ok (.invokevirtual 52, 3) := dk_182 0 52 (dk_at dksX8_vote_3 4 rfl rfl)
theorem dX8_vote_77 : decode cX8_vote 77 = .ok (.ifCond .lt 7, 3) := dk_155 0 7 (dk_at dksX8_vote_3 7 rfl rfl)
theorem dX8_vote_80 : decode cX8_vote 80 = .ok (.iconst 1, 1) := dk_4 (dk_at dksX8_vote_3 10 rfl rfl)
theorem dX8_vote_81 : decode cX8_vote 81 = .ok (.goto 4, 3) := dk_167 0 4 (dk_at dksX8_vote_3 11 rfl rfl)
theorem dX8_vote_84 : decode cX8_vote 84 = .ok (.iconst 0, 1) := dk_3 (dk_at dksX8_vote_3 14 rfl rfl)
theorem dX8_vote_85 : decode cX8_vote 85 = .ok (.invokestatic 72, 3) := dk_184 0 72 (dk_at dksX8_vote_3 15 rfl rfl)
theorem dX8_vote_88 : decode cX8_vote 88 = .ok (.iadd, 1) := dk_96 (dk_at dksX8_vote_3 18 rfl rfl)
theorem dX8_vote_89 : decode cX8_vote 89 = .ok (.istore 4, 2) := dk_54 4 (dk_at dksX8_vote_3 19 rfl rfl)
theorem dX8_vote_91 : decode cX8_vote 91 = .ok (.iinc 5 1, 3) := dk_132 5 1 (dk_at dksX8_vote_3 21 rfl rfl)
theorem dX8_vote_94 : decode cX8_vote 94 = .ok (.goto (-33), 3) := dk_167 255 223 (dk_at dksX8_vote_4 0 rfl rfl)
theorem dX8_vote_97 : decode cX8_vote 97 = .ok (.iload 4, 2) := dk_21 4 (dk_at dksX8_vote_4 3 rfl rfl)
theorem dX8_vote_99 : decode cX8_vote 99 = .ok (.iconst 3, 1) := dk_6 (dk_at dksX8_vote_4 5 rfl rfl)
theorem dX8_vote_100 : decode cX8_vote 100 = .ok (.if_icmp .ne 7, 3) := dk_160 0 7 (dk_at dksX8_vote_4 6 rfl rfl)
theorem dX8_vote_103 : decode cX8_vote 103 = .ok (.iconst 3, 1) := dk_6 (dk_at dksX8_vote_4 9 rfl rfl)
theorem dX8_vote_104 : decode cX8_vote 104 = .ok (.goto 14, 3) := dk_167 0 14 (dk_at dksX8_vote_4 10 rfl rfl)
theorem dX8_vote_107 : decode cX8_vote 107 = .ok (.iload 4, 2) := dk_21 4 (dk_at dksX8_vote_4 13 rfl rfl)
theorem dX8_vote_109 : decode cX8_vote 109 = .ok (.iconst 2, 1) := dk_5 (dk_at dksX8_vote_4 15 rfl rfl)
theorem dX8_vote_110 : decode cX8_vote 110 = .ok (.if_icmp .ne 7, 3) := dk_160 0 7 (dk_at dksX8_vote_4 16 rfl rfl)
theorem dX8_vote_113 : decode cX8_vote 113 = .ok (.iconst 4, 1) := dk_7 (dk_at dksX8_vote_4 19 rfl rfl)
theorem dX8_vote_114 : decode cX8_vote 114 = .ok (.goto 4, 3) := dk_167 0 4 (dk_at dksX8_vote_4 20 rfl rfl)
theorem dX8_vote_117 : decode cX8_vote 117 = .ok (.iconst 5, 1) := dk_8 (dk_at dksX8_vote_4 23 rfl rfl)
theorem dX8_vote_118 : decode cX8_vote 118 = .ok (.ireturn, 1) := dk_172 (dk_at dksX8_vote_5 0 rfl rfl)
abbrev cX8_believed : ByteArray := prog_5_method_15_code
def yX8_believed : MethodName := ⟨RX8, "believed", "(I)I"⟩
def dkwX8_believed_1 : List UInt8 := [184, 0, 56, 172]
abbrev dktX8_believed_1 : List UInt8 := dkwX8_believed_1 ++ []
def dkwX8_believed_0 : List UInt8 := [42, 180, 0, 24, 3, 50, 27, 46, 42, 180, 0, 24, 4, 50, 27, 46, 42, 180, 0, 24, 5, 50, 27, 46]
abbrev dktX8_believed_0 : List UInt8 := dkwX8_believed_0 ++ dktX8_believed_1
theorem dksX8_believed_0 : cX8_believed.data.toList.drop 0 = dktX8_believed_0 := by decide +kernel
theorem dksX8_believed_1 : cX8_believed.data.toList.drop 24 = dktX8_believed_1 := dk_seg dksX8_believed_0 24 rfl rfl
theorem dX8_believed_0 : decode cX8_believed 0 = .ok (.aload_n 0, 1) := dk_42 (dk_at dksX8_believed_0 0 rfl rfl)
theorem dX8_believed_1 : decode cX8_believed 1 = .ok (.getfield 24, 3) := dk_180 0 24 (dk_at dksX8_believed_0 1 rfl rfl)
theorem dX8_believed_4 : decode cX8_believed 4 = .ok (.iconst 0, 1) := dk_3 (dk_at dksX8_believed_0 4 rfl rfl)
theorem dX8_believed_5 : decode cX8_believed 5 = .ok (.aaload, 1) := dk_50 (dk_at dksX8_believed_0 5 rfl rfl)
theorem dX8_believed_6 : decode cX8_believed 6 = .ok (.iload_n 1, 1) := dk_27 (dk_at dksX8_believed_0 6 rfl rfl)
theorem dX8_believed_7 : decode cX8_believed 7 = .ok (.iaload, 1) := dk_46 (dk_at dksX8_believed_0 7 rfl rfl)
theorem dX8_believed_8 : decode cX8_believed 8 = .ok (.aload_n 0, 1) := dk_42 (dk_at dksX8_believed_0 8 rfl rfl)
theorem dX8_believed_9 : decode cX8_believed 9 = .ok (.getfield 24, 3) := dk_180 0 24 (dk_at dksX8_believed_0 9 rfl rfl)
theorem dX8_believed_12 : decode cX8_believed 12 = .ok (.iconst 1, 1) := dk_4 (dk_at dksX8_believed_0 12 rfl rfl)
theorem dX8_believed_13 : decode cX8_believed 13 = .ok (.aaload, 1) := dk_50 (dk_at dksX8_believed_0 13 rfl rfl)
theorem dX8_believed_14 : decode cX8_believed 14 = .ok (.iload_n 1, 1) := dk_27 (dk_at dksX8_believed_0 14 rfl rfl)
theorem dX8_believed_15 : decode cX8_believed 15 = .ok (.iaload, 1) := dk_46 (dk_at dksX8_believed_0 15 rfl rfl)
theorem dX8_believed_16 : decode cX8_believed 16 = .ok (.aload_n 0, 1) := dk_42 (dk_at dksX8_believed_0 16 rfl rfl)
theorem dX8_believed_17 : decode cX8_believed 17 = .ok (.getfield 24, 3) := dk_180 0 24 (dk_at dksX8_believed_0 17 rfl rfl)
theorem dX8_believed_20 : decode cX8_believed 20 = .ok (.iconst 2, 1) := dk_5 (dk_at dksX8_believed_0 20 rfl rfl)
theorem dX8_believed_21 : decode cX8_believed 21 = .ok (.aaload, 1) := dk_50 (dk_at dksX8_believed_0 21 rfl rfl)
theorem dX8_believed_22 : decode cX8_believed 22 = .ok (.iload_n 1, 1) := dk_27 (dk_at dksX8_believed_0 22 rfl rfl)
theorem dX8_believed_23 : decode cX8_believed 23 = .ok (.iaload, 1) := dk_46 (dk_at dksX8_believed_0 23 rfl rfl)
theorem dX8_believed_24 : decode cX8_believed 24 = .ok (.invokestatic 56, 3) := dk_184 0 56 (dk_at dksX8_believed_1 0 rfl rfl)
theorem dX8_believed_27 : decode cX8_believed 27 = .ok (.ireturn, 1) := dk_172 (dk_at dksX8_believed_1 3 rfl rfl)
abbrev cX8_right : ByteArray := prog_5_method_16_code
def yX8_right : MethodName := ⟨RX8, "right", "()I"⟩
def dkwX8_right_1 : List UInt8 := [160, 0, 7, 4, 167, 0, 4, 3, 184, 0, 72, 96, 60, 132, 2, 1, 167, 255, 220, 27, 172]
abbrev dktX8_right_1 : List UInt8 := dkwX8_right_1 ++ []
def dkwX8_right_0 : List UInt8 := [3, 60, 3, 61, 28, 42, 182, 0, 86, 162, 0, 34, 27, 42, 28, 182, 0, 93, 42, 180, 0, 18, 28, 46]
abbrev dktX8_right_0 : List UInt8 := dkwX8_right_0 ++ dktX8_right_1
theorem dksX8_right_0 : cX8_right.data.toList.drop 0 = dktX8_right_0 := by decide +kernel
theorem dksX8_right_1 : cX8_right.data.toList.drop 24 = dktX8_right_1 := dk_seg dksX8_right_0 24 rfl rfl
theorem dX8_right_0 : decode cX8_right 0 = .ok (.iconst 0, 1) := dk_3 (dk_at dksX8_right_0 0 rfl rfl)
theorem dX8_right_1 : decode cX8_right 1 = .ok (.istore_n 1, 1) := dk_60 (dk_at dksX8_right_0 1 rfl rfl)
theorem dX8_right_2 : decode cX8_right 2 = .ok (.iconst 0, 1) := dk_3 (dk_at dksX8_right_0 2 rfl rfl)
theorem dX8_right_3 : decode cX8_right 3 = .ok (.istore_n 2, 1) := dk_61 (dk_at dksX8_right_0 3 rfl rfl)
theorem dX8_right_4 : decode cX8_right 4 = .ok (.iload_n 2, 1) := dk_28 (dk_at dksX8_right_0 4 rfl rfl)
theorem dX8_right_5 : decode cX8_right 5 = .ok (.aload_n 0, 1) := dk_42 (dk_at dksX8_right_0 5 rfl rfl)
theorem dX8_right_6 : decode cX8_right 6 = .ok (.invokevirtual 86, 3) := dk_182 0 86 (dk_at dksX8_right_0 6 rfl rfl)
theorem dX8_right_9 : decode cX8_right 9 = .ok (.if_icmp .ge 34, 3) := dk_162 0 34 (dk_at dksX8_right_0 9 rfl rfl)
theorem dX8_right_12 : decode cX8_right 12 = .ok (.iload_n 1, 1) := dk_27 (dk_at dksX8_right_0 12 rfl rfl)
theorem dX8_right_13 : decode cX8_right 13 = .ok (.aload_n 0, 1) := dk_42 (dk_at dksX8_right_0 13 rfl rfl)
theorem dX8_right_14 : decode cX8_right 14 = .ok (.iload_n 2, 1) := dk_28 (dk_at dksX8_right_0 14 rfl rfl)
theorem dX8_right_15 : decode cX8_right 15 = .ok (.invokevirtual 93, 3) := dk_182 0 93 (dk_at dksX8_right_0 15 rfl rfl)
theorem dX8_right_18 : decode cX8_right 18 = .ok (.aload_n 0, 1) := dk_42 (dk_at dksX8_right_0 18 rfl rfl)
theorem dX8_right_19 : decode cX8_right 19 = .ok (.getfield 18, 3) := dk_180 0 18 (dk_at dksX8_right_0 19 rfl rfl)
theorem dX8_right_22 : decode cX8_right 22 = .ok (.iload_n 2, 1) := dk_28 (dk_at dksX8_right_0 22 rfl rfl)
theorem dX8_right_23 : decode cX8_right 23 = .ok (.iaload, 1) := dk_46 (dk_at dksX8_right_0 23 rfl rfl)
theorem dX8_right_24 : decode cX8_right 24 = .ok (.if_icmp .ne 7, 3) := dk_160 0 7 (dk_at dksX8_right_1 0 rfl rfl)
theorem dX8_right_27 : decode cX8_right 27 = .ok (.iconst 1, 1) := dk_4 (dk_at dksX8_right_1 3 rfl rfl)
theorem dX8_right_28 : decode cX8_right 28 = .ok (.goto 4, 3) := dk_167 0 4 (dk_at dksX8_right_1 4 rfl rfl)
theorem dX8_right_31 : decode cX8_right 31 = .ok (.iconst 0, 1) := dk_3 (dk_at dksX8_right_1 7 rfl rfl)
theorem dX8_right_32 : decode cX8_right 32 = .ok (.invokestatic 72, 3) := dk_184 0 72 (dk_at dksX8_right_1 8 rfl rfl)
theorem dX8_right_35 : decode cX8_right 35 = .ok (.iadd, 1) := dk_96 (dk_at dksX8_right_1 11 rfl rfl)
theorem dX8_right_36 : decode cX8_right 36 = .ok (.istore_n 1, 1) := dk_60 (dk_at dksX8_right_1 12 rfl rfl)
theorem dX8_right_37 : decode cX8_right 37 = .ok (.iinc 2 1, 3) := dk_132 2 1 (dk_at dksX8_right_1 13 rfl rfl)
theorem dX8_right_40 : decode cX8_right 40 = .ok (.goto (-36), 3) := dk_167 255 220 (dk_at dksX8_right_1 16 rfl rfl)
theorem dX8_right_43 : decode cX8_right 43 = .ok (.iload_n 1, 1) := dk_27 (dk_at dksX8_right_1 19 rfl rfl)
theorem dX8_right_44 : decode cX8_right 44 = .ok (.ireturn, 1) := dk_172 (dk_at dksX8_right_1 20 rfl rfl)
abbrev cX8_liar : ByteArray := prog_5_method_17_code
def yX8_liar : MethodName := ⟨RX8, "liar", "()I"⟩
def dkwX8_liar_4 : List UInt8 := [167, 255, 172, 27, 172]
abbrev dktX8_liar_4 : List UInt8 := dkwX8_liar_4 ++ []
def dkwX8_liar_3 : List UInt8 := [132, 5, 1, 167, 255, 203, 21, 4, 28, 163, 0, 6, 167, 0, 8, 29, 60, 21, 4, 61, 132, 3, 1]
abbrev dktX8_liar_3 : List UInt8 := dkwX8_liar_3 ++ dktX8_liar_4
def dkwX8_liar_2 : List UInt8 := [180, 0, 24, 29, 50, 21, 5, 46, 159, 0, 7, 4, 167, 0, 4, 3, 184, 0, 72, 96, 54, 4]
abbrev dktX8_liar_2 : List UInt8 := dkwX8_liar_2 ++ dktX8_liar_3
def dkwX8_liar_1 : List UInt8 := [162, 0, 50, 21, 4, 42, 21, 5, 182, 0, 93, 2, 159, 0, 25, 42, 21, 5, 182, 0, 93, 42]
abbrev dktX8_liar_1 : List UInt8 := dkwX8_liar_1 ++ dktX8_liar_2
def dkwX8_liar_0 : List UInt8 := [2, 60, 3, 61, 3, 62, 29, 6, 162, 0, 85, 3, 54, 4, 3, 54, 5, 21, 5, 42, 182, 0, 86]
abbrev dktX8_liar_0 : List UInt8 := dkwX8_liar_0 ++ dktX8_liar_1
theorem dksX8_liar_0 : cX8_liar.data.toList.drop 0 = dktX8_liar_0 := by decide +kernel
theorem dksX8_liar_1 : cX8_liar.data.toList.drop 23 = dktX8_liar_1 := dk_seg dksX8_liar_0 23 rfl rfl
theorem dksX8_liar_2 : cX8_liar.data.toList.drop 45 = dktX8_liar_2 := dk_seg dksX8_liar_1 22 rfl rfl
theorem dksX8_liar_3 : cX8_liar.data.toList.drop 67 = dktX8_liar_3 := dk_seg dksX8_liar_2 22 rfl rfl
theorem dksX8_liar_4 : cX8_liar.data.toList.drop 90 = dktX8_liar_4 := dk_seg dksX8_liar_3 23 rfl rfl
theorem dX8_liar_0 : decode cX8_liar 0 = .ok (.iconst (-1), 1) := dk_2 (dk_at dksX8_liar_0 0 rfl rfl)
theorem dX8_liar_1 : decode cX8_liar 1 = .ok (.istore_n 1, 1) := dk_60 (dk_at dksX8_liar_0 1 rfl rfl)
theorem dX8_liar_2 : decode cX8_liar 2 = .ok (.iconst 0, 1) := dk_3 (dk_at dksX8_liar_0 2 rfl rfl)
theorem dX8_liar_3 : decode cX8_liar 3 = .ok (.istore_n 2, 1) := dk_61 (dk_at dksX8_liar_0 3 rfl rfl)
theorem dX8_liar_4 : decode cX8_liar 4 = .ok (.iconst 0, 1) := dk_3 (dk_at dksX8_liar_0 4 rfl rfl)
theorem dX8_liar_5 : decode cX8_liar 5 = .ok (.istore_n 3, 1) := dk_62 (dk_at dksX8_liar_0 5 rfl rfl)
theorem dX8_liar_6 : decode cX8_liar 6 = .ok (.iload_n 3, 1) := dk_29 (dk_at dksX8_liar_0 6 rfl rfl)
theorem dX8_liar_7 : decode cX8_liar 7 = .ok (.iconst 3, 1) := dk_6 (dk_at dksX8_liar_0 7 rfl rfl)
theorem dX8_liar_8 : decode cX8_liar 8 = .ok (.if_icmp .ge 85, 3) := dk_162 0 85 (dk_at dksX8_liar_0 8 rfl rfl)
theorem dX8_liar_11 : decode cX8_liar 11 = .ok (.iconst 0, 1) := dk_3 (dk_at dksX8_liar_0 11 rfl rfl)
theorem dX8_liar_12 : decode cX8_liar 12 = .ok (.istore 4, 2) := dk_54 4 (dk_at dksX8_liar_0 12 rfl rfl)
theorem dX8_liar_14 : decode cX8_liar 14 = .ok (.iconst 0, 1) := dk_3 (dk_at dksX8_liar_0 14 rfl rfl)
theorem dX8_liar_15 : decode cX8_liar 15 = .ok (.istore 5, 2) := dk_54 5 (dk_at dksX8_liar_0 15 rfl rfl)
theorem dX8_liar_17 : decode cX8_liar 17 = .ok (.iload 5, 2) := dk_21 5 (dk_at dksX8_liar_0 17 rfl rfl)
theorem dX8_liar_19 : decode cX8_liar 19 = .ok (.aload_n 0, 1) := dk_42 (dk_at dksX8_liar_0 19 rfl rfl)
theorem dX8_liar_20 : decode cX8_liar 20 = .ok (.invokevirtual 86, 3) := dk_182 0 86 (dk_at dksX8_liar_0 20 rfl rfl)
theorem dX8_liar_23 : decode cX8_liar 23 = .ok (.if_icmp .ge 50, 3) := dk_162 0 50 (dk_at dksX8_liar_1 0 rfl rfl)
theorem dX8_liar_26 : decode cX8_liar 26 = .ok (.iload 4, 2) := dk_21 4 (dk_at dksX8_liar_1 3 rfl rfl)
theorem dX8_liar_28 : decode cX8_liar 28 = .ok (.aload_n 0, 1) := dk_42 (dk_at dksX8_liar_1 5 rfl rfl)
theorem dX8_liar_29 : decode cX8_liar 29 = .ok (.iload 5, 2) := dk_21 5 (dk_at dksX8_liar_1 6 rfl rfl)
theorem dX8_liar_31 : decode cX8_liar 31 = .ok (.invokevirtual 93, 3) := dk_182 0 93 (dk_at dksX8_liar_1 8 rfl rfl)
theorem dX8_liar_34 : decode cX8_liar 34 = .ok (.iconst (-1), 1) := dk_2 (dk_at dksX8_liar_1 11 rfl rfl)
theorem dX8_liar_35 : decode cX8_liar 35 = .ok (.if_icmp .eq 25, 3) := dk_159 0 25 (dk_at dksX8_liar_1 12 rfl rfl)
theorem dX8_liar_38 : decode cX8_liar 38 = .ok (.aload_n 0, 1) := dk_42 (dk_at dksX8_liar_1 15 rfl rfl)
theorem dX8_liar_39 : decode cX8_liar 39 = .ok (.iload 5, 2) := dk_21 5 (dk_at dksX8_liar_1 16 rfl rfl)
theorem dX8_liar_41 : decode cX8_liar 41 = .ok (.invokevirtual 93, 3) := dk_182 0 93 (dk_at dksX8_liar_1 18 rfl rfl)
theorem dX8_liar_44 : decode cX8_liar 44 = .ok (.aload_n 0, 1) := dk_42 (dk_at dksX8_liar_1 21 rfl rfl)
theorem dX8_liar_45 : decode cX8_liar 45 = .ok (.getfield 24, 3) := dk_180 0 24 (dk_at dksX8_liar_2 0 rfl rfl)
theorem dX8_liar_48 : decode cX8_liar 48 = .ok (.iload_n 3, 1) := dk_29 (dk_at dksX8_liar_2 3 rfl rfl)
theorem dX8_liar_49 : decode cX8_liar 49 = .ok (.aaload, 1) := dk_50 (dk_at dksX8_liar_2 4 rfl rfl)
theorem dX8_liar_50 : decode cX8_liar 50 = .ok (.iload 5, 2) := dk_21 5 (dk_at dksX8_liar_2 5 rfl rfl)
theorem dX8_liar_52 : decode cX8_liar 52 = .ok (.iaload, 1) := dk_46 (dk_at dksX8_liar_2 7 rfl rfl)
theorem dX8_liar_53 : decode cX8_liar 53 = .ok (.if_icmp .eq 7, 3) := dk_159 0 7 (dk_at dksX8_liar_2 8 rfl rfl)
theorem dX8_liar_56 : decode cX8_liar 56 = .ok (.iconst 1, 1) := dk_4 (dk_at dksX8_liar_2 11 rfl rfl)
theorem dX8_liar_57 : decode cX8_liar 57 = .ok (.goto 4, 3) := dk_167 0 4 (dk_at dksX8_liar_2 12 rfl rfl)
theorem dX8_liar_60 : decode cX8_liar 60 = .ok (.iconst 0, 1) := dk_3 (dk_at dksX8_liar_2 15 rfl rfl)
theorem dX8_liar_61 : decode cX8_liar 61 = .ok (.invokestatic 72, 3) := dk_184 0 72 (dk_at dksX8_liar_2 16 rfl rfl)
theorem dX8_liar_64 : decode cX8_liar 64 = .ok (.iadd, 1) := dk_96 (dk_at dksX8_liar_2 19 rfl rfl)
theorem dX8_liar_65 : decode cX8_liar 65 = .ok (.istore 4, 2) := dk_54 4 (dk_at dksX8_liar_2 20 rfl rfl)
theorem dX8_liar_67 : decode cX8_liar 67 = .ok (.iinc 5 1, 3) := dk_132 5 1 (dk_at dksX8_liar_3 0 rfl rfl)
theorem dX8_liar_70 : decode cX8_liar 70 = .ok (.goto (-53), 3) := dk_167 255 203 (dk_at dksX8_liar_3 3 rfl rfl)
theorem dX8_liar_73 : decode cX8_liar 73 = .ok (.iload 4, 2) := dk_21 4 (dk_at dksX8_liar_3 6 rfl rfl)
theorem dX8_liar_75 : decode cX8_liar 75 = .ok (.iload_n 2, 1) := dk_28 (dk_at dksX8_liar_3 8 rfl rfl)
theorem dX8_liar_76 : decode cX8_liar 76 = .ok (.if_icmp .gt 6, 3) := dk_163 0 6 (dk_at dksX8_liar_3 9 rfl rfl)
theorem dX8_liar_79 : decode cX8_liar 79 = .ok (.goto 8, 3) := dk_167 0 8 (dk_at dksX8_liar_3 12 rfl rfl)
theorem dX8_liar_82 : decode cX8_liar 82 = .ok (.iload_n 3, 1) := dk_29 (dk_at dksX8_liar_3 15 rfl rfl)
theorem dX8_liar_83 : decode cX8_liar 83 = .ok (.istore_n 1, 1) := dk_60 (dk_at dksX8_liar_3 16 rfl rfl)
theorem dX8_liar_84 : decode cX8_liar 84 = .ok (.iload 4, 2) := dk_21 4 (dk_at dksX8_liar_3 17 rfl rfl)
theorem dX8_liar_86 : decode cX8_liar 86 = .ok (.istore_n 2, 1) := dk_61 (dk_at dksX8_liar_3 19 rfl rfl)
theorem dX8_liar_87 : decode cX8_liar 87 = .ok (.iinc 3 1, 3) := dk_132 3 1 (dk_at dksX8_liar_3 20 rfl rfl)
theorem dX8_liar_90 : decode cX8_liar 90 = .ok (.goto (-84), 3) := dk_167 255 172 (dk_at dksX8_liar_4 0 rfl rfl)
theorem dX8_liar_93 : decode cX8_liar 93 = .ok (.iload_n 1, 1) := dk_27 (dk_at dksX8_liar_4 3 rfl rfl)
theorem dX8_liar_94 : decode cX8_liar 94 = .ok (.ireturn, 1) := dk_172 (dk_at dksX8_liar_4 4 rfl rfl)
abbrev cX8_firstWrong : ByteArray := prog_5_method_18_code
def yX8_firstWrong : MethodName := ⟨RX8, "firstWrong", "()I"⟩
def dkwX8_firstWrong_1 : List UInt8 := [27, 172, 132, 1, 1, 167, 255, 229, 2, 172]
abbrev dktX8_firstWrong_1 : List UInt8 := dkwX8_firstWrong_1 ++ []
def dkwX8_firstWrong_0 : List UInt8 := [3, 60, 27, 42, 182, 0, 86, 162, 0, 25, 42, 27, 182, 0, 93, 42, 180, 0, 18, 27, 46, 159, 0, 5]
abbrev dktX8_firstWrong_0 : List UInt8 := dkwX8_firstWrong_0 ++ dktX8_firstWrong_1
theorem dksX8_firstWrong_0 : cX8_firstWrong.data.toList.drop 0 = dktX8_firstWrong_0 := by decide +kernel
theorem dksX8_firstWrong_1 : cX8_firstWrong.data.toList.drop 24 = dktX8_firstWrong_1 := dk_seg dksX8_firstWrong_0 24 rfl rfl
theorem dX8_firstWrong_0 : decode cX8_firstWrong 0 = .ok (.iconst 0, 1) := dk_3 (dk_at dksX8_firstWrong_0 0 rfl rfl)
theorem dX8_firstWrong_1 : decode cX8_firstWrong 1 = .ok (.istore_n 1, 1) := dk_60 (dk_at dksX8_firstWrong_0 1 rfl rfl)
theorem dX8_firstWrong_2 : decode cX8_firstWrong 2 = .ok (.iload_n 1, 1) := dk_27 (dk_at dksX8_firstWrong_0 2 rfl rfl)
theorem dX8_firstWrong_3 : decode cX8_firstWrong 3 = .ok (.aload_n 0, 1) := dk_42 (dk_at dksX8_firstWrong_0 3 rfl rfl)
theorem dX8_firstWrong_4 : decode cX8_firstWrong 4 = .ok (.invokevirtual 86, 3) := dk_182 0 86 (dk_at dksX8_firstWrong_0 4 rfl rfl)
theorem dX8_firstWrong_7 : decode cX8_firstWrong 7 = .ok (.if_icmp .ge 25, 3) := dk_162 0 25 (dk_at dksX8_firstWrong_0 7 rfl rfl)
theorem dX8_firstWrong_10 : decode cX8_firstWrong 10 = .ok (.aload_n 0, 1) := dk_42 (dk_at dksX8_firstWrong_0 10 rfl rfl)
theorem dX8_firstWrong_11 : decode cX8_firstWrong 11 = .ok (.iload_n 1, 1) := dk_27 (dk_at dksX8_firstWrong_0 11 rfl rfl)
theorem dX8_firstWrong_12 : decode cX8_firstWrong 12 = .ok (.invokevirtual 93, 3) := dk_182 0 93 (dk_at dksX8_firstWrong_0 12 rfl rfl)
theorem dX8_firstWrong_15 : decode cX8_firstWrong 15 = .ok (.aload_n 0, 1) := dk_42 (dk_at dksX8_firstWrong_0 15 rfl rfl)
theorem dX8_firstWrong_16 : decode cX8_firstWrong 16 = .ok (.getfield 18, 3) := dk_180 0 18 (dk_at dksX8_firstWrong_0 16 rfl rfl)
theorem dX8_firstWrong_19 : decode cX8_firstWrong 19 = .ok (.iload_n 1, 1) := dk_27 (dk_at dksX8_firstWrong_0 19 rfl rfl)
theorem dX8_firstWrong_20 : decode cX8_firstWrong 20 = .ok (.iaload, 1) := dk_46 (dk_at dksX8_firstWrong_0 20 rfl rfl)
theorem dX8_firstWrong_21 : decode cX8_firstWrong 21 = .ok (.if_icmp .eq 5, 3) := dk_159 0 5 (dk_at dksX8_firstWrong_0 21 rfl rfl)
theorem dX8_firstWrong_24 : decode cX8_firstWrong 24 = .ok (.iload_n 1, 1) := dk_27 (dk_at dksX8_firstWrong_1 0 rfl rfl)
theorem dX8_firstWrong_25 : decode cX8_firstWrong 25 = .ok (.ireturn, 1) := dk_172 (dk_at dksX8_firstWrong_1 1 rfl rfl)
theorem dX8_firstWrong_26 : decode cX8_firstWrong 26 = .ok (.iinc 1 1, 3) := dk_132 1 1 (dk_at dksX8_firstWrong_1 2 rfl rfl)
theorem dX8_firstWrong_29 : decode cX8_firstWrong 29 = .ok (.goto (-27), 3) := dk_167 255 229 (dk_at dksX8_firstWrong_1 5 rfl rfl)
theorem dX8_firstWrong_32 : decode cX8_firstWrong 32 = .ok (.iconst (-1), 1) := dk_2 (dk_at dksX8_firstWrong_1 8 rfl rfl)
theorem dX8_firstWrong_33 : decode cX8_firstWrong 33 = .ok (.ireturn, 1) := dk_172 (dk_at dksX8_firstWrong_1 9 rfl rfl)
abbrev cX8_doubtful : ByteArray := prog_5_method_20_code
def yX8_doubtful : MethodName := ⟨RX8, "doubtful", "()I"⟩
def dkwX8_doubtful_3 : List UInt8 := [184, 0, 72, 96, 60, 132, 2, 1, 167, 255, 184, 27, 172]
abbrev dktX8_doubtful_3 : List UInt8 := dkwX8_doubtful_3 ++ []
def dkwX8_doubtful_2 : List UInt8 := [180, 0, 24, 3, 50, 28, 46, 42, 180, 0, 24, 5, 50, 28, 46, 159, 0, 7, 4, 167, 0, 4, 3]
abbrev dktX8_doubtful_2 : List UInt8 := dkwX8_doubtful_2 ++ dktX8_doubtful_3
def dkwX8_doubtful_1 : List UInt8 := [159, 0, 41, 42, 180, 0, 24, 3, 50, 28, 46, 42, 180, 0, 24, 4, 50, 28, 46, 160, 0, 22, 42]
abbrev dktX8_doubtful_1 : List UInt8 := dkwX8_doubtful_1 ++ dktX8_doubtful_2
def dkwX8_doubtful_0 : List UInt8 := [3, 60, 3, 61, 28, 42, 182, 0, 86, 162, 0, 70, 27, 42, 180, 0, 24, 3, 50, 28, 46, 2]
abbrev dktX8_doubtful_0 : List UInt8 := dkwX8_doubtful_0 ++ dktX8_doubtful_1
theorem dksX8_doubtful_0 : cX8_doubtful.data.toList.drop 0 = dktX8_doubtful_0 := by decide +kernel
theorem dksX8_doubtful_1 : cX8_doubtful.data.toList.drop 22 = dktX8_doubtful_1 := dk_seg dksX8_doubtful_0 22 rfl rfl
theorem dksX8_doubtful_2 : cX8_doubtful.data.toList.drop 45 = dktX8_doubtful_2 := dk_seg dksX8_doubtful_1 23 rfl rfl
theorem dksX8_doubtful_3 : cX8_doubtful.data.toList.drop 68 = dktX8_doubtful_3 := dk_seg dksX8_doubtful_2 23 rfl rfl
theorem dX8_doubtful_0 : decode cX8_doubtful 0 = .ok (.iconst 0, 1) := dk_3 (dk_at dksX8_doubtful_0 0 rfl rfl)
theorem dX8_doubtful_1 : decode cX8_doubtful 1 = .ok (.istore_n 1, 1) := dk_60 (dk_at dksX8_doubtful_0 1 rfl rfl)
theorem dX8_doubtful_2 : decode cX8_doubtful 2 = .ok (.iconst 0, 1) := dk_3 (dk_at dksX8_doubtful_0 2 rfl rfl)
theorem dX8_doubtful_3 : decode cX8_doubtful 3 = .ok (.istore_n 2, 1) := dk_61 (dk_at dksX8_doubtful_0 3 rfl rfl)
theorem dX8_doubtful_4 : decode cX8_doubtful 4 = .ok (.iload_n 2, 1) := dk_28 (dk_at dksX8_doubtful_0 4 rfl rfl)
theorem dX8_doubtful_5 : decode cX8_doubtful 5 = .ok (.aload_n 0, 1) := dk_42 (dk_at dksX8_doubtful_0 5 rfl rfl)
theorem dX8_doubtful_6 : decode cX8_doubtful 6 = .ok (.invokevirtual 86, 3) := dk_182 0 86 (dk_at dksX8_doubtful_0 6 rfl rfl)
theorem dX8_doubtful_9 : decode cX8_doubtful 9 = .ok (.if_icmp .ge 70, 3) := dk_162 0 70 (dk_at dksX8_doubtful_0 9 rfl rfl)
theorem dX8_doubtful_12 : decode cX8_doubtful 12 = .ok (.iload_n 1, 1) := dk_27 (dk_at dksX8_doubtful_0 12 rfl rfl)
theorem dX8_doubtful_13 : decode cX8_doubtful 13 = .ok (.aload_n 0, 1) := dk_42 (dk_at dksX8_doubtful_0 13 rfl rfl)
theorem dX8_doubtful_14 : decode cX8_doubtful 14 = .ok (.getfield 24, 3) := dk_180 0 24 (dk_at dksX8_doubtful_0 14 rfl rfl)
theorem dX8_doubtful_17 : decode cX8_doubtful 17 = .ok (.iconst 0, 1) := dk_3 (dk_at dksX8_doubtful_0 17 rfl rfl)
theorem dX8_doubtful_18 : decode cX8_doubtful 18 = .ok (.aaload, 1) := dk_50 (dk_at dksX8_doubtful_0 18 rfl rfl)
theorem dX8_doubtful_19 : decode cX8_doubtful 19 = .ok (.iload_n 2, 1) := dk_28 (dk_at dksX8_doubtful_0 19 rfl rfl)
theorem dX8_doubtful_20 : decode cX8_doubtful 20 = .ok (.iaload, 1) := dk_46 (dk_at dksX8_doubtful_0 20 rfl rfl)
theorem dX8_doubtful_21 : decode cX8_doubtful 21 = .ok (.iconst (-1), 1) := dk_2 (dk_at dksX8_doubtful_0 21 rfl rfl)
theorem dX8_doubtful_22 : decode cX8_doubtful 22 = .ok (.if_icmp .eq 41, 3) := dk_159 0 41 (dk_at dksX8_doubtful_1 0 rfl rfl)
theorem dX8_doubtful_25 : decode cX8_doubtful 25 = .ok (.aload_n 0, 1) := dk_42 (dk_at dksX8_doubtful_1 3 rfl rfl)
theorem dX8_doubtful_26 : decode cX8_doubtful 26 = .ok (.getfield 24, 3) := dk_180 0 24 (dk_at dksX8_doubtful_1 4 rfl rfl)
theorem dX8_doubtful_29 : decode cX8_doubtful 29 = .ok (.iconst 0, 1) := dk_3 (dk_at dksX8_doubtful_1 7 rfl rfl)
theorem dX8_doubtful_30 : decode cX8_doubtful 30 = .ok (.aaload, 1) := dk_50 (dk_at dksX8_doubtful_1 8 rfl rfl)
theorem dX8_doubtful_31 : decode cX8_doubtful 31 = .ok (.iload_n 2, 1) := dk_28 (dk_at dksX8_doubtful_1 9 rfl rfl)
theorem dX8_doubtful_32 : decode cX8_doubtful 32 = .ok (.iaload, 1) := dk_46 (dk_at dksX8_doubtful_1 10 rfl rfl)
theorem dX8_doubtful_33 : decode cX8_doubtful 33 = .ok (.aload_n 0, 1) := dk_42 (dk_at dksX8_doubtful_1 11 rfl rfl)
theorem dX8_doubtful_34 : decode cX8_doubtful 34 = .ok (.getfield 24, 3) := dk_180 0 24 (dk_at dksX8_doubtful_1 12 rfl rfl)
theorem dX8_doubtful_37 : decode cX8_doubtful 37 = .ok (.iconst 1, 1) := dk_4 (dk_at dksX8_doubtful_1 15 rfl rfl)
theorem dX8_doubtful_38 : decode cX8_doubtful 38 = .ok (.aaload, 1) := dk_50 (dk_at dksX8_doubtful_1 16 rfl rfl)
theorem dX8_doubtful_39 : decode cX8_doubtful 39 = .ok (.iload_n 2, 1) := dk_28 (dk_at dksX8_doubtful_1 17 rfl rfl)
theorem dX8_doubtful_40 : decode cX8_doubtful 40 = .ok (.iaload, 1) := dk_46 (dk_at dksX8_doubtful_1 18 rfl rfl)
theorem dX8_doubtful_41 : decode cX8_doubtful 41 = .ok (.if_icmp .ne 22, 3) := dk_160 0 22 (dk_at dksX8_doubtful_1 19 rfl rfl)
theorem dX8_doubtful_44 : decode cX8_doubtful 44 = .ok (.aload_n 0, 1) := dk_42 (dk_at dksX8_doubtful_1 22 rfl rfl)
theorem dX8_doubtful_45 : decode cX8_doubtful 45 = .ok (.getfield 24, 3) := dk_180 0 24 (dk_at dksX8_doubtful_2 0 rfl rfl)
theorem dX8_doubtful_48 : decode cX8_doubtful 48 = .ok (.iconst 0, 1) := dk_3 (dk_at dksX8_doubtful_2 3 rfl rfl)
theorem dX8_doubtful_49 : decode cX8_doubtful 49 = .ok (.aaload, 1) := dk_50 (dk_at dksX8_doubtful_2 4 rfl rfl)
theorem dX8_doubtful_50 : decode cX8_doubtful 50 = .ok (.iload_n 2, 1) := dk_28 (dk_at dksX8_doubtful_2 5 rfl rfl)
theorem dX8_doubtful_51 : decode cX8_doubtful 51 = .ok (.iaload, 1) := dk_46 (dk_at dksX8_doubtful_2 6 rfl rfl)
theorem dX8_doubtful_52 : decode cX8_doubtful 52 = .ok (.aload_n 0, 1) := dk_42 (dk_at dksX8_doubtful_2 7 rfl rfl)
theorem dX8_doubtful_53 : decode cX8_doubtful 53 = .ok (.getfield 24, 3) := dk_180 0 24 (dk_at dksX8_doubtful_2 8 rfl rfl)
theorem dX8_doubtful_56 : decode cX8_doubtful 56 = .ok (.iconst 2, 1) := dk_5 (dk_at dksX8_doubtful_2 11 rfl rfl)
theorem dX8_doubtful_57 : decode cX8_doubtful 57 = .ok (.aaload, 1) := dk_50 (dk_at dksX8_doubtful_2 12 rfl rfl)
theorem dX8_doubtful_58 : decode cX8_doubtful 58 = .ok (.iload_n 2, 1) := dk_28 (dk_at dksX8_doubtful_2 13 rfl rfl)
theorem dX8_doubtful_59 : decode cX8_doubtful 59 = .ok (.iaload, 1) := dk_46 (dk_at dksX8_doubtful_2 14 rfl rfl)
theorem dX8_doubtful_60 : decode cX8_doubtful 60 = .ok (.if_icmp .eq 7, 3) := dk_159 0 7 (dk_at dksX8_doubtful_2 15 rfl rfl)
theorem dX8_doubtful_63 : decode cX8_doubtful 63 = .ok (.iconst 1, 1) := dk_4 (dk_at dksX8_doubtful_2 18 rfl rfl)
theorem dX8_doubtful_64 : decode cX8_doubtful 64 = .ok (.goto 4, 3) := dk_167 0 4 (dk_at dksX8_doubtful_2 19 rfl rfl)
theorem dX8_doubtful_67 : decode cX8_doubtful 67 = .ok (.iconst 0, 1) := dk_3 (dk_at dksX8_doubtful_2 22 rfl rfl)
theorem dX8_doubtful_68 : decode cX8_doubtful 68 = .ok (.invokestatic 72, 3) := dk_184 0 72 (dk_at dksX8_doubtful_3 0 rfl rfl)
theorem dX8_doubtful_71 : decode cX8_doubtful 71 = .ok (.iadd, 1) := dk_96 (dk_at dksX8_doubtful_3 3 rfl rfl)
theorem dX8_doubtful_72 : decode cX8_doubtful 72 = .ok (.istore_n 1, 1) := dk_60 (dk_at dksX8_doubtful_3 4 rfl rfl)
theorem dX8_doubtful_73 : decode cX8_doubtful 73 = .ok (.iinc 2 1, 3) := dk_132 2 1 (dk_at dksX8_doubtful_3 5 rfl rfl)
theorem dX8_doubtful_76 : decode cX8_doubtful 76 = .ok (.goto (-72), 3) := dk_167 255 184 (dk_at dksX8_doubtful_3 8 rfl rfl)
theorem dX8_doubtful_79 : decode cX8_doubtful 79 = .ok (.iload_n 1, 1) := dk_27 (dk_at dksX8_doubtful_3 11 rfl rfl)
theorem dX8_doubtful_80 : decode cX8_doubtful 80 = .ok (.ireturn, 1) := dk_172 (dk_at dksX8_doubtful_3 12 rfl rfl)
abbrev cX8_agreeing : ByteArray := prog_5_method_21_code
def yX8_agreeing : MethodName := ⟨RX8, "agreeing", "()I"⟩
def dkwX8_agreeing_1 : List UInt8 := [161, 0, 12, 27, 29, 161, 0, 7, 3, 167, 0, 13, 28, 29, 161, 0, 7, 4, 167, 0, 4, 5, 172]
abbrev dktX8_agreeing_1 : List UInt8 := dkwX8_agreeing_1 ++ []
def dkwX8_agreeing_0 : List UInt8 := [42, 3, 4, 182, 0, 96, 60, 42, 3, 5, 182, 0, 96, 61, 42, 4, 5, 182, 0, 96, 62, 27, 28]
abbrev dktX8_agreeing_0 : List UInt8 := dkwX8_agreeing_0 ++ dktX8_agreeing_1
theorem dksX8_agreeing_0 : cX8_agreeing.data.toList.drop 0 = dktX8_agreeing_0 := by decide +kernel
theorem dksX8_agreeing_1 : cX8_agreeing.data.toList.drop 23 = dktX8_agreeing_1 := dk_seg dksX8_agreeing_0 23 rfl rfl
theorem dX8_agreeing_0 : decode cX8_agreeing 0 = .ok (.aload_n 0, 1) := dk_42 (dk_at dksX8_agreeing_0 0 rfl rfl)
theorem dX8_agreeing_1 : decode cX8_agreeing 1 = .ok (.iconst 0, 1) := dk_3 (dk_at dksX8_agreeing_0 1 rfl rfl)
theorem dX8_agreeing_2 : decode cX8_agreeing 2 = .ok (.iconst 1, 1) := dk_4 (dk_at dksX8_agreeing_0 2 rfl rfl)
theorem dX8_agreeing_3 : decode cX8_agreeing 3 = .ok (.invokevirtual 96, 3) := dk_182 0 96 (dk_at dksX8_agreeing_0 3 rfl rfl)
theorem dX8_agreeing_6 : decode cX8_agreeing 6 = .ok (.istore_n 1, 1) := dk_60 (dk_at dksX8_agreeing_0 6 rfl rfl)
theorem dX8_agreeing_7 : decode cX8_agreeing 7 = .ok (.aload_n 0, 1) := dk_42 (dk_at dksX8_agreeing_0 7 rfl rfl)
theorem dX8_agreeing_8 : decode cX8_agreeing 8 = .ok (.iconst 0, 1) := dk_3 (dk_at dksX8_agreeing_0 8 rfl rfl)
theorem dX8_agreeing_9 : decode cX8_agreeing 9 = .ok (.iconst 2, 1) := dk_5 (dk_at dksX8_agreeing_0 9 rfl rfl)
theorem dX8_agreeing_10 : decode cX8_agreeing 10 = .ok (.invokevirtual 96, 3) := dk_182 0 96 (dk_at dksX8_agreeing_0 10 rfl rfl)
theorem dX8_agreeing_13 : decode cX8_agreeing 13 = .ok (.istore_n 2, 1) := dk_61 (dk_at dksX8_agreeing_0 13 rfl rfl)
theorem dX8_agreeing_14 : decode cX8_agreeing 14 = .ok (.aload_n 0, 1) := dk_42 (dk_at dksX8_agreeing_0 14 rfl rfl)
theorem dX8_agreeing_15 : decode cX8_agreeing 15 = .ok (.iconst 1, 1) := dk_4 (dk_at dksX8_agreeing_0 15 rfl rfl)
theorem dX8_agreeing_16 : decode cX8_agreeing 16 = .ok (.iconst 2, 1) := dk_5 (dk_at dksX8_agreeing_0 16 rfl rfl)
theorem dX8_agreeing_17 : decode cX8_agreeing 17 = .ok (.invokevirtual 96, 3) := dk_182 0 96 (dk_at dksX8_agreeing_0 17 rfl rfl)
theorem dX8_agreeing_20 : decode cX8_agreeing 20 = .ok (.istore_n 3, 1) := dk_62 (dk_at dksX8_agreeing_0 20 rfl rfl)
theorem dX8_agreeing_21 : decode cX8_agreeing 21 = .ok (.iload_n 1, 1) := dk_27 (dk_at dksX8_agreeing_0 21 rfl rfl)
theorem dX8_agreeing_22 : decode cX8_agreeing 22 = .ok (.iload_n 2, 1) := dk_28 (dk_at dksX8_agreeing_0 22 rfl rfl)
theorem dX8_agreeing_23 : decode cX8_agreeing 23 = .ok (.if_icmp .lt 12, 3) := dk_161 0 12 (dk_at dksX8_agreeing_1 0 rfl rfl)
theorem dX8_agreeing_26 : decode cX8_agreeing 26 = .ok (.iload_n 1, 1) := dk_27 (dk_at dksX8_agreeing_1 3 rfl rfl)
theorem dX8_agreeing_27 : decode cX8_agreeing 27 = .ok (.iload_n 3, 1) := dk_29 (dk_at dksX8_agreeing_1 4 rfl rfl)
theorem dX8_agreeing_28 : decode cX8_agreeing 28 = .ok (.if_icmp .lt 7, 3) := dk_161 0 7 (dk_at dksX8_agreeing_1 5 rfl rfl)
theorem dX8_agreeing_31 : decode cX8_agreeing 31 = .ok (.iconst 0, 1) := dk_3 (dk_at dksX8_agreeing_1 8 rfl rfl)
theorem dX8_agreeing_32 : decode cX8_agreeing 32 = .ok (.goto 13, 3) := dk_167 0 13 (dk_at dksX8_agreeing_1 9 rfl rfl)
theorem dX8_agreeing_35 : decode cX8_agreeing 35 = .ok (.iload_n 2, 1) := dk_28 (dk_at dksX8_agreeing_1 12 rfl rfl)
theorem dX8_agreeing_36 : decode cX8_agreeing 36 = .ok (.iload_n 3, 1) := dk_29 (dk_at dksX8_agreeing_1 13 rfl rfl)
theorem dX8_agreeing_37 : decode cX8_agreeing 37 = .ok (.if_icmp .lt 7, 3) := dk_161 0 7 (dk_at dksX8_agreeing_1 14 rfl rfl)
theorem dX8_agreeing_40 : decode cX8_agreeing 40 = .ok (.iconst 1, 1) := dk_4 (dk_at dksX8_agreeing_1 17 rfl rfl)
theorem dX8_agreeing_41 : decode cX8_agreeing 41 = .ok (.goto 4, 3) := dk_167 0 4 (dk_at dksX8_agreeing_1 18 rfl rfl)
theorem dX8_agreeing_44 : decode cX8_agreeing 44 = .ok (.iconst 2, 1) := dk_5 (dk_at dksX8_agreeing_1 21 rfl rfl)
theorem dX8_agreeing_45 : decode cX8_agreeing 45 = .ok (.ireturn, 1) := dk_172 (dk_at dksX8_agreeing_1 22 rfl rfl)
abbrev cX8_alike : ByteArray := prog_5_method_19_code
def yX8_alike : MethodName := ⟨RX8, "alike", "(II)I"⟩
def dkwX8_alike_2 : List UInt8 := [160, 0, 7, 4, 167, 0, 4, 3, 184, 0, 72, 96, 62, 132, 4, 1, 167, 255, 199, 29, 172]
abbrev dktX8_alike_2 : List UInt8 := dkwX8_alike_2 ++ []
def dkwX8_alike_1 : List UInt8 := [2, 159, 0, 28, 42, 180, 0, 24, 27, 50, 21, 4, 46, 42, 180, 0, 24, 28, 50, 21, 4, 46]
abbrev dktX8_alike_1 : List UInt8 := dkwX8_alike_1 ++ dktX8_alike_2
def dkwX8_alike_0 : List UInt8 := [3, 62, 3, 54, 4, 21, 4, 42, 182, 0, 86, 162, 0, 54, 29, 42, 180, 0, 24, 27, 50, 21, 4, 46]
abbrev dktX8_alike_0 : List UInt8 := dkwX8_alike_0 ++ dktX8_alike_1
theorem dksX8_alike_0 : cX8_alike.data.toList.drop 0 = dktX8_alike_0 := by decide +kernel
theorem dksX8_alike_1 : cX8_alike.data.toList.drop 24 = dktX8_alike_1 := dk_seg dksX8_alike_0 24 rfl rfl
theorem dksX8_alike_2 : cX8_alike.data.toList.drop 46 = dktX8_alike_2 := dk_seg dksX8_alike_1 22 rfl rfl
theorem dX8_alike_0 : decode cX8_alike 0 = .ok (.iconst 0, 1) := dk_3 (dk_at dksX8_alike_0 0 rfl rfl)
theorem dX8_alike_1 : decode cX8_alike 1 = .ok (.istore_n 3, 1) := dk_62 (dk_at dksX8_alike_0 1 rfl rfl)
theorem dX8_alike_2 : decode cX8_alike 2 = .ok (.iconst 0, 1) := dk_3 (dk_at dksX8_alike_0 2 rfl rfl)
theorem dX8_alike_3 : decode cX8_alike 3 = .ok (.istore 4, 2) := dk_54 4 (dk_at dksX8_alike_0 3 rfl rfl)
theorem dX8_alike_5 : decode cX8_alike 5 = .ok (.iload 4, 2) := dk_21 4 (dk_at dksX8_alike_0 5 rfl rfl)
theorem dX8_alike_7 : decode cX8_alike 7 = .ok (.aload_n 0, 1) := dk_42 (dk_at dksX8_alike_0 7 rfl rfl)
theorem dX8_alike_8 : decode cX8_alike 8 = .ok (.invokevirtual 86, 3) := dk_182 0 86 (dk_at dksX8_alike_0 8 rfl rfl)
theorem dX8_alike_11 : decode cX8_alike 11 = .ok (.if_icmp .ge 54, 3) := dk_162 0 54 (dk_at dksX8_alike_0 11 rfl rfl)
theorem dX8_alike_14 : decode cX8_alike 14 = .ok (.iload_n 3, 1) := dk_29 (dk_at dksX8_alike_0 14 rfl rfl)
theorem dX8_alike_15 : decode cX8_alike 15 = .ok (.aload_n 0, 1) := dk_42 (dk_at dksX8_alike_0 15 rfl rfl)
theorem dX8_alike_16 : decode cX8_alike 16 = .ok (.getfield 24, 3) := dk_180 0 24 (dk_at dksX8_alike_0 16 rfl rfl)
theorem dX8_alike_19 : decode cX8_alike 19 = .ok (.iload_n 1, 1) := dk_27 (dk_at dksX8_alike_0 19 rfl rfl)
theorem dX8_alike_20 : decode cX8_alike 20 = .ok (.aaload, 1) := dk_50 (dk_at dksX8_alike_0 20 rfl rfl)
theorem dX8_alike_21 : decode cX8_alike 21 = .ok (.iload 4, 2) := dk_21 4 (dk_at dksX8_alike_0 21 rfl rfl)
theorem dX8_alike_23 : decode cX8_alike 23 = .ok (.iaload, 1) := dk_46 (dk_at dksX8_alike_0 23 rfl rfl)
theorem dX8_alike_24 : decode cX8_alike 24 = .ok (.iconst (-1), 1) := dk_2 (dk_at dksX8_alike_1 0 rfl rfl)
theorem dX8_alike_25 : decode cX8_alike 25 = .ok (.if_icmp .eq 28, 3) := dk_159 0 28 (dk_at dksX8_alike_1 1 rfl rfl)
theorem dX8_alike_28 : decode cX8_alike 28 = .ok (.aload_n 0, 1) := dk_42 (dk_at dksX8_alike_1 4 rfl rfl)
theorem dX8_alike_29 : decode cX8_alike 29 = .ok (.getfield 24, 3) := dk_180 0 24 (dk_at dksX8_alike_1 5 rfl rfl)
theorem dX8_alike_32 : decode cX8_alike 32 = .ok (.iload_n 1, 1) := dk_27 (dk_at dksX8_alike_1 8 rfl rfl)
theorem dX8_alike_33 : decode cX8_alike 33 = .ok (.aaload, 1) := dk_50 (dk_at dksX8_alike_1 9 rfl rfl)
theorem dX8_alike_34 : decode cX8_alike 34 = .ok (.iload 4, 2) := dk_21 4 (dk_at dksX8_alike_1 10 rfl rfl)
theorem dX8_alike_36 : decode cX8_alike 36 = .ok (.iaload, 1) := dk_46 (dk_at dksX8_alike_1 12 rfl rfl)
theorem dX8_alike_37 : decode cX8_alike 37 = .ok (.aload_n 0, 1) := dk_42 (dk_at dksX8_alike_1 13 rfl rfl)
theorem dX8_alike_38 : decode cX8_alike 38 = .ok (.getfield 24, 3) := dk_180 0 24 (dk_at dksX8_alike_1 14 rfl rfl)
theorem dX8_alike_41 : decode cX8_alike 41 = .ok (.iload_n 2, 1) := dk_28 (dk_at dksX8_alike_1 17 rfl rfl)
theorem dX8_alike_42 : decode cX8_alike 42 = .ok (.aaload, 1) := dk_50 (dk_at dksX8_alike_1 18 rfl rfl)
theorem dX8_alike_43 : decode cX8_alike 43 = .ok (.iload 4, 2) := dk_21 4 (dk_at dksX8_alike_1 19 rfl rfl)
theorem dX8_alike_45 : decode cX8_alike 45 = .ok (.iaload, 1) := dk_46 (dk_at dksX8_alike_1 21 rfl rfl)
theorem dX8_alike_46 : decode cX8_alike 46 = .ok (.if_icmp .ne 7, 3) := dk_160 0 7 (dk_at dksX8_alike_2 0 rfl rfl)
theorem dX8_alike_49 : decode cX8_alike 49 = .ok (.iconst 1, 1) := dk_4 (dk_at dksX8_alike_2 3 rfl rfl)
theorem dX8_alike_50 : decode cX8_alike 50 = .ok (.goto 4, 3) := dk_167 0 4 (dk_at dksX8_alike_2 4 rfl rfl)
theorem dX8_alike_53 : decode cX8_alike 53 = .ok (.iconst 0, 1) := dk_3 (dk_at dksX8_alike_2 7 rfl rfl)
theorem dX8_alike_54 : decode cX8_alike 54 = .ok (.invokestatic 72, 3) := dk_184 0 72 (dk_at dksX8_alike_2 8 rfl rfl)
theorem dX8_alike_57 : decode cX8_alike 57 = .ok (.iadd, 1) := dk_96 (dk_at dksX8_alike_2 11 rfl rfl)
theorem dX8_alike_58 : decode cX8_alike 58 = .ok (.istore_n 3, 1) := dk_62 (dk_at dksX8_alike_2 12 rfl rfl)
theorem dX8_alike_59 : decode cX8_alike 59 = .ok (.iinc 4 1, 3) := dk_132 4 1 (dk_at dksX8_alike_2 13 rfl rfl)
theorem dX8_alike_62 : decode cX8_alike 62 = .ok (.goto (-57), 3) := dk_167 255 199 (dk_at dksX8_alike_2 16 rfl rfl)
theorem dX8_alike_65 : decode cX8_alike 65 = .ok (.iload_n 3, 1) := dk_29 (dk_at dksX8_alike_2 19 rfl rfl)
theorem dX8_alike_66 : decode cX8_alike 66 = .ok (.ireturn, 1) := dk_172 (dk_at dksX8_alike_2 20 rfl rfl)
abbrev cX8_gap : ByteArray := prog_5_method_22_code
def yX8_gap : MethodName := ⟨RX8, "gap", "()I"⟩
def dkwX8_gap_2 : List UInt8 := [167, 0, 4, 3, 184, 0, 72, 96, 60, 132, 3, 1, 167, 255, 217, 132, 2, 1, 167, 255, 197, 27, 172]
abbrev dktX8_gap_2 : List UInt8 := dkwX8_gap_2 ++ []
def dkwX8_gap_1 : List UInt8 := [162, 0, 37, 27, 42, 180, 0, 24, 28, 50, 29, 46, 42, 28, 29, 182, 0, 68, 159, 0, 7, 4]
abbrev dktX8_gap_1 : List UInt8 := dkwX8_gap_1 ++ dktX8_gap_2
def dkwX8_gap_0 : List UInt8 := [3, 60, 3, 61, 28, 6, 162, 0, 60, 42, 180, 0, 46, 158, 0, 53, 3, 62, 29, 42, 182, 0, 86]
abbrev dktX8_gap_0 : List UInt8 := dkwX8_gap_0 ++ dktX8_gap_1
theorem dksX8_gap_0 : cX8_gap.data.toList.drop 0 = dktX8_gap_0 := by decide +kernel
theorem dksX8_gap_1 : cX8_gap.data.toList.drop 23 = dktX8_gap_1 := dk_seg dksX8_gap_0 23 rfl rfl
theorem dksX8_gap_2 : cX8_gap.data.toList.drop 45 = dktX8_gap_2 := dk_seg dksX8_gap_1 22 rfl rfl
theorem dX8_gap_0 : decode cX8_gap 0 = .ok (.iconst 0, 1) := dk_3 (dk_at dksX8_gap_0 0 rfl rfl)
theorem dX8_gap_1 : decode cX8_gap 1 = .ok (.istore_n 1, 1) := dk_60 (dk_at dksX8_gap_0 1 rfl rfl)
theorem dX8_gap_2 : decode cX8_gap 2 = .ok (.iconst 0, 1) := dk_3 (dk_at dksX8_gap_0 2 rfl rfl)
theorem dX8_gap_3 : decode cX8_gap 3 = .ok (.istore_n 2, 1) := dk_61 (dk_at dksX8_gap_0 3 rfl rfl)
theorem dX8_gap_4 : decode cX8_gap 4 = .ok (.iload_n 2, 1) := dk_28 (dk_at dksX8_gap_0 4 rfl rfl)
theorem dX8_gap_5 : decode cX8_gap 5 = .ok (.iconst 3, 1) := dk_6 (dk_at dksX8_gap_0 5 rfl rfl)
theorem dX8_gap_6 : decode cX8_gap 6 = .ok (.if_icmp .ge 60, 3) := dk_162 0 60 (dk_at dksX8_gap_0 6 rfl rfl)
theorem dX8_gap_9 : decode cX8_gap 9 = .ok (.aload_n 0, 1) := dk_42 (dk_at dksX8_gap_0 9 rfl rfl)
theorem dX8_gap_10 : decode cX8_gap 10 = .ok (.getfield 46, 3) := dk_180 0 46 (dk_at dksX8_gap_0 10 rfl rfl)
theorem dX8_gap_13 : decode cX8_gap 13 = .ok (.ifCond .le 53, 3) := dk_158 0 53 (dk_at dksX8_gap_0 13 rfl rfl)
theorem dX8_gap_16 : decode cX8_gap 16 = .ok (.iconst 0, 1) := dk_3 (dk_at dksX8_gap_0 16 rfl rfl)
theorem dX8_gap_17 : decode cX8_gap 17 = .ok (.istore_n 3, 1) := dk_62 (dk_at dksX8_gap_0 17 rfl rfl)
theorem dX8_gap_18 : decode cX8_gap 18 = .ok (.iload_n 3, 1) := dk_29 (dk_at dksX8_gap_0 18 rfl rfl)
theorem dX8_gap_19 : decode cX8_gap 19 = .ok (.aload_n 0, 1) := dk_42 (dk_at dksX8_gap_0 19 rfl rfl)
theorem dX8_gap_20 : decode cX8_gap 20 = .ok (.invokevirtual 86, 3) := dk_182 0 86 (dk_at dksX8_gap_0 20 rfl rfl)
theorem dX8_gap_23 : decode cX8_gap 23 = .ok (.if_icmp .ge 37, 3) := dk_162 0 37 (dk_at dksX8_gap_1 0 rfl rfl)
theorem dX8_gap_26 : decode cX8_gap 26 = .ok (.iload_n 1, 1) := dk_27 (dk_at dksX8_gap_1 3 rfl rfl)
theorem dX8_gap_27 : decode cX8_gap 27 = .ok (.aload_n 0, 1) := dk_42 (dk_at dksX8_gap_1 4 rfl rfl)
theorem dX8_gap_28 : decode cX8_gap 28 = .ok (.getfield 24, 3) := dk_180 0 24 (dk_at dksX8_gap_1 5 rfl rfl)
theorem dX8_gap_31 : decode cX8_gap 31 = .ok (.iload_n 2, 1) := dk_28 (dk_at dksX8_gap_1 8 rfl rfl)
theorem dX8_gap_32 : decode cX8_gap 32 = .ok (.aaload, 1) := dk_50 (dk_at dksX8_gap_1 9 rfl rfl)
theorem dX8_gap_33 : decode cX8_gap 33 = .ok (.iload_n 3, 1) := dk_29 (dk_at dksX8_gap_1 10 rfl rfl)
theorem dX8_gap_34 : decode cX8_gap 34 = .ok (.iaload, 1) := dk_46 (dk_at dksX8_gap_1 11 rfl rfl)
theorem dX8_gap_35 : decode cX8_gap 35 = .ok (.aload_n 0, 1) := dk_42 (dk_at dksX8_gap_1 12 rfl rfl)
theorem dX8_gap_36 : decode cX8_gap 36 = .ok (.iload_n 2, 1) := dk_28 (dk_at dksX8_gap_1 13 rfl rfl)
theorem dX8_gap_37 : decode cX8_gap 37 = .ok (.iload_n 3, 1) := dk_29 (dk_at dksX8_gap_1 14 rfl rfl)
theorem dX8_gap_38 : decode cX8_gap 38 = .ok (.invokevirtual 68, 3) := dk_182 0 68 (dk_at dksX8_gap_1 15 rfl rfl)
theorem dX8_gap_41 : decode cX8_gap 41 = .ok (.if_icmp .eq 7, 3) := dk_159 0 7 (dk_at dksX8_gap_1 18 rfl rfl)
theorem dX8_gap_44 : decode cX8_gap 44 = .ok (.iconst 1, 1) := dk_4 (dk_at dksX8_gap_1 21 rfl rfl)
theorem dX8_gap_45 : decode cX8_gap 45 = .ok (.goto 4, 3) := dk_167 0 4 (dk_at dksX8_gap_2 0 rfl rfl)
theorem dX8_gap_48 : decode cX8_gap 48 = .ok (.iconst 0, 1) := dk_3 (dk_at dksX8_gap_2 3 rfl rfl)
theorem dX8_gap_49 : decode cX8_gap 49 = .ok (.invokestatic 72, 3) := dk_184 0 72 (dk_at dksX8_gap_2 4 rfl rfl)
theorem dX8_gap_52 : decode cX8_gap 52 = .ok (.iadd, 1) := dk_96 (dk_at dksX8_gap_2 7 rfl rfl)
theorem dX8_gap_53 : decode cX8_gap 53 = .ok (.istore_n 1, 1) := dk_60 (dk_at dksX8_gap_2 8 rfl rfl)
theorem dX8_gap_54 : decode cX8_gap 54 = .ok (.iinc 3 1, 3) := dk_132 3 1 (dk_at dksX8_gap_2 9 rfl rfl)
theorem dX8_gap_57 : decode cX8_gap 57 = .ok (.goto (-39), 3) := dk_167 255 217 (dk_at dksX8_gap_2 12 rfl rfl)
theorem dX8_gap_60 : decode cX8_gap 60 = .ok (.iinc 2 1, 3) := dk_132 2 1 (dk_at dksX8_gap_2 15 rfl rfl)
theorem dX8_gap_63 : decode cX8_gap 63 = .ok (.goto (-59), 3) := dk_167 255 197 (dk_at dksX8_gap_2 18 rfl rfl)
theorem dX8_gap_66 : decode cX8_gap 66 = .ok (.iload_n 1, 1) := dk_27 (dk_at dksX8_gap_2 21 rfl rfl)
theorem dX8_gap_67 : decode cX8_gap 67 = .ok (.ireturn, 1) := dk_172 (dk_at dksX8_gap_2 22 rfl rfl)
abbrev cX8_init_3 : ByteArray := prog_5_method_3_code
def yX8_init_3 : MethodName := ⟨RX8, "<init>", "(LVotingHuts$Message;)V"⟩
def dkwX8_init_3_2 : List UInt8 := [180, 0, 46, 181, 0, 46, 42, 43, 180, 0, 49, 181, 0, 49, 42, 43, 180, 0, 9, 181, 0, 9, 177]
abbrev dktX8_init_3_2 : List UInt8 := dkwX8_init_3_2 ++ []
def dkwX8_init_3_1 : List UInt8 := [43, 180, 0, 27, 42, 180, 0, 27, 184, 0, 42, 43, 180, 0, 30, 42, 180, 0, 30, 184, 0, 42, 42, 43]
abbrev dktX8_init_3_1 : List UInt8 := dkwX8_init_3_1 ++ dktX8_init_3_2
def dkwX8_init_3_0 : List UInt8 := [42, 43, 180, 0, 15, 43, 180, 0, 18, 6, 183, 0, 33, 43, 180, 0, 24, 42, 180, 0, 24, 184, 0, 42]
abbrev dktX8_init_3_0 : List UInt8 := dkwX8_init_3_0 ++ dktX8_init_3_1
theorem dksX8_init_3_0 : cX8_init_3.data.toList.drop 0 = dktX8_init_3_0 := by decide +kernel
theorem dksX8_init_3_1 : cX8_init_3.data.toList.drop 24 = dktX8_init_3_1 := dk_seg dksX8_init_3_0 24 rfl rfl
theorem dksX8_init_3_2 : cX8_init_3.data.toList.drop 48 = dktX8_init_3_2 := dk_seg dksX8_init_3_1 24 rfl rfl
theorem dX8_init_3_0 : decode cX8_init_3 0 = .ok (.aload_n 0, 1) := dk_42 (dk_at dksX8_init_3_0 0 rfl rfl)
theorem dX8_init_3_1 : decode cX8_init_3 1 = .ok (.aload_n 1, 1) := dk_43 (dk_at dksX8_init_3_0 1 rfl rfl)
theorem dX8_init_3_2 : decode cX8_init_3 2 = .ok (.getfield 15, 3) := dk_180 0 15 (dk_at dksX8_init_3_0 2 rfl rfl)
theorem dX8_init_3_5 : decode cX8_init_3 5 = .ok (.aload_n 1, 1) := dk_43 (dk_at dksX8_init_3_0 5 rfl rfl)
theorem dX8_init_3_6 : decode cX8_init_3 6 = .ok (.getfield 18, 3) := dk_180 0 18 (dk_at dksX8_init_3_0 6 rfl rfl)
theorem dX8_init_3_9 : decode cX8_init_3 9 = .ok (.iconst 3, 1) := dk_6 (dk_at dksX8_init_3_0 9 rfl rfl)
theorem dX8_init_3_10 : decode cX8_init_3 10 = .ok (.invokespecial 33, 3) := dk_183 0 33 (dk_at dksX8_init_3_0 10 rfl rfl)
theorem dX8_init_3_13 : decode cX8_init_3 13 = .ok (.aload_n 1, 1) := dk_43 (dk_at dksX8_init_3_0 13 rfl rfl)
theorem dX8_init_3_14 : decode cX8_init_3 14 = .ok (.getfield 24, 3) := dk_180 0 24 (dk_at dksX8_init_3_0 14 rfl rfl)
theorem dX8_init_3_17 : decode cX8_init_3 17 = .ok (.aload_n 0, 1) := dk_42 (dk_at dksX8_init_3_0 17 rfl rfl)
theorem dX8_init_3_18 : decode cX8_init_3 18 = .ok (.getfield 24, 3) := dk_180 0 24 (dk_at dksX8_init_3_0 18 rfl rfl)
theorem dX8_init_3_21 : decode cX8_init_3 21 = .ok (.invokestatic 42, 3) := dk_184 0 42 (dk_at dksX8_init_3_0 21 rfl rfl)
theorem dX8_init_3_24 : decode cX8_init_3 24 = .ok (.aload_n 1, 1) := dk_43 (dk_at dksX8_init_3_1 0 rfl rfl)
theorem dX8_init_3_25 : decode cX8_init_3 25 = .ok (.getfield 27, 3) := dk_180 0 27 (dk_at dksX8_init_3_1 1 rfl rfl)
theorem dX8_init_3_28 : decode cX8_init_3 28 = .ok (.aload_n 0, 1) := dk_42 (dk_at dksX8_init_3_1 4 rfl rfl)
theorem dX8_init_3_29 : decode cX8_init_3 29 = .ok (.getfield 27, 3) := dk_180 0 27 (dk_at dksX8_init_3_1 5 rfl rfl)
theorem dX8_init_3_32 : decode cX8_init_3 32 = .ok (.invokestatic 42, 3) := dk_184 0 42 (dk_at dksX8_init_3_1 8 rfl rfl)
theorem dX8_init_3_35 : decode cX8_init_3 35 = .ok (.aload_n 1, 1) := dk_43 (dk_at dksX8_init_3_1 11 rfl rfl)
theorem dX8_init_3_36 : decode cX8_init_3 36 = .ok (.getfield 30, 3) := dk_180 0 30 (dk_at dksX8_init_3_1 12 rfl rfl)
theorem dX8_init_3_39 : decode cX8_init_3 39 = .ok (.aload_n 0, 1) := dk_42 (dk_at dksX8_init_3_1 15 rfl rfl)
theorem dX8_init_3_40 : decode cX8_init_3 40 = .ok (.getfield 30, 3) := dk_180 0 30 (dk_at dksX8_init_3_1 16 rfl rfl)
theorem dX8_init_3_43 : decode cX8_init_3 43 = .ok (.invokestatic 42, 3) := dk_184 0 42 (dk_at dksX8_init_3_1 19 rfl rfl)
theorem dX8_init_3_46 : decode cX8_init_3 46 = .ok (.aload_n 0, 1) := dk_42 (dk_at dksX8_init_3_1 22 rfl rfl)
theorem dX8_init_3_47 : decode cX8_init_3 47 = .ok (.aload_n 1, 1) := dk_43 (dk_at dksX8_init_3_1 23 rfl rfl)
theorem dX8_init_3_48 : decode cX8_init_3 48 = .ok (.getfield 46, 3) := dk_180 0 46 (dk_at dksX8_init_3_2 0 rfl rfl)
theorem dX8_init_3_51 : decode cX8_init_3 51 = .ok (.putfield 46, 3) := dk_181 0 46 (dk_at dksX8_init_3_2 3 rfl rfl)
theorem dX8_init_3_54 : decode cX8_init_3 54 = .ok (.aload_n 0, 1) := dk_42 (dk_at dksX8_init_3_2 6 rfl rfl)
theorem dX8_init_3_55 : decode cX8_init_3 55 = .ok (.aload_n 1, 1) := dk_43 (dk_at dksX8_init_3_2 7 rfl rfl)
theorem dX8_init_3_56 : decode cX8_init_3 56 = .ok (.getfield 49, 3) := dk_180 0 49 (dk_at dksX8_init_3_2 8 rfl rfl)
theorem dX8_init_3_59 : decode cX8_init_3 59 = .ok (.putfield 49, 3) := dk_181 0 49 (dk_at dksX8_init_3_2 11 rfl rfl)
theorem dX8_init_3_62 : decode cX8_init_3 62 = .ok (.aload_n 0, 1) := dk_42 (dk_at dksX8_init_3_2 14 rfl rfl)
theorem dX8_init_3_63 : decode cX8_init_3 63 = .ok (.aload_n 1, 1) := dk_43 (dk_at dksX8_init_3_2 15 rfl rfl)
theorem dX8_init_3_64 : decode cX8_init_3 64 = .ok (.getfield 9, 3) := dk_180 0 9 (dk_at dksX8_init_3_2 16 rfl rfl)
theorem dX8_init_3_67 : decode cX8_init_3 67 = .ok (.putfield 9, 3) := dk_181 0 9 (dk_at dksX8_init_3_2 19 rfl rfl)
theorem dX8_init_3_70 : decode cX8_init_3 70 = .ok (.return_, 1) := dk_177 (dk_at dksX8_init_3_2 22 rfl rfl)
theorem q164 : (Jvm.Cond.initialized "VotingHuts$Message") ∈ lw_all := lw_g (lw_at lw_m1 32 rfl) rfl
theorem q1001 : (Jvm.Cond.instantiable "VotingHuts$Message" (8 : Nat)) ∈ lw_all := lw_g (lw_at lw_m4 149 rfl) rfl
theorem q1003 : (Jvm.Cond.instanceMethod ({ cls := "VotingHuts$Message", name := "<init>", desc := "(I[I)V" } : Jvm.MethodName)) ∈ lw_all := lw_g (lw_at lw_m4 151 rfl) rfl
theorem q1004 : (Jvm.Cond.code ({ cls := "VotingHuts$Message", name := "<init>", desc := "(I[I)V" } : Jvm.MethodName) prog_5_method_2_code (8 : Nat) (Option.none : Option Jvm.ClassFile.FieldType)) ∈ lw_all := lw_g (lw_at lw_m4 152 rfl) rfl
theorem q1005 : (Jvm.Cond.methodLink "VotingHuts$Message" (33 : Nat) ({ cls := "VotingHuts$Message", name := "<init>", desc := "(I[II)V" } : Jvm.MethodName)) ∈ lw_all := lw_g (lw_at lw_m4 153 rfl) rfl
theorem q1006 : (Jvm.Cond.instanceMethod ({ cls := "VotingHuts$Message", name := "<init>", desc := "(I[II)V" } : Jvm.MethodName)) ∈ lw_all := lw_g (lw_at lw_m4 154 rfl) rfl
theorem q1007 : (Jvm.Cond.code ({ cls := "VotingHuts$Message", name := "<init>", desc := "(I[II)V" } : Jvm.MethodName) prog_5_method_1_code (4 : Nat) (Option.none : Option Jvm.ClassFile.FieldType)) ∈ lw_all := lw_g (lw_at lw_m4 155 rfl) rfl
theorem q1008 : (Jvm.Cond.methodLink "VotingHuts$Message" (3 : Nat) ({ cls := "java/lang/Object", name := "<init>", desc := "()V" } : Jvm.MethodName)) ∈ lw_all := lw_g (lw_at lw_m4 156 rfl) rfl
theorem q1009 : (Jvm.Cond.classLink "VotingHuts$Message" (22 : Nat) "[[I") ∈ lw_all := lw_g (lw_at lw_m4 157 rfl) rfl
theorem q1011 : (Jvm.Cond.fieldLink "VotingHuts$Message" (18 : Nat) "VotingHuts$Message" "digits" "[I") ∈ lw_all := lw_g (lw_at lw_m4 159 rfl) rfl
theorem q1013 : (Jvm.Cond.fieldLink "VotingHuts$Message" (24 : Nat) "VotingHuts$Message" "has" "[[I") ∈ lw_all := lw_g (lw_at lw_m4 161 rfl) rfl
theorem q1015 : (Jvm.Cond.fieldLink "VotingHuts$Message" (27 : Nat) "VotingHuts$Message" "before" "[[I") ∈ lw_all := lw_g (lw_at lw_m4 163 rfl) rfl
theorem q1016 : (Jvm.Cond.fieldLink "VotingHuts$Message" (30 : Nat) "VotingHuts$Message" "copies" "[[I") ∈ lw_all := lw_g (lw_at lw_m4 164 rfl) rfl
theorem q1017 : (Jvm.Cond.fieldLink "VotingHuts$Message" (15 : Nat) "VotingHuts$Message" "hourSent" "I") ∈ lw_all := lw_g (lw_at lw_m4 165 rfl) rfl
theorem q1019 : (Jvm.Cond.fieldLink "VotingHuts$Message" (46 : Nat) "VotingHuts$Message" "level" "I") ∈ lw_all := lw_g (lw_at lw_m4 167 rfl) rfl
theorem q1022 : (Jvm.Cond.fieldLink "VotingHuts$Message" (49 : Nat) "VotingHuts$Message" "asked" "I") ∈ lw_all := lw_g (lw_at lw_m4 170 rfl) rfl
theorem q1024 : (Jvm.Cond.fieldLink "VotingHuts$Message" (9 : Nat) "VotingHuts$Message" "arrived" "I") ∈ lw_all := lw_g (lw_at lw_m4 172 rfl) rfl
theorem q1028 : (Jvm.Cond.laysFinal "VotingHuts$Message" "VotingHuts$Message" "digits" "[I") ∈ lw_all := lw_g (lw_at lw_m4 176 rfl) rfl
theorem q1029 : (Jvm.Cond.soleField "VotingHuts$Message" "digits") ∈ lw_all := lw_g (lw_at lw_m4 177 rfl) rfl
theorem q1030 : (Jvm.Cond.laysFinal "VotingHuts$Message" "VotingHuts$Message" "has" "[[I") ∈ lw_all := lw_g (lw_at lw_m4 178 rfl) rfl
theorem q1031 : (Jvm.Cond.soleField "VotingHuts$Message" "has") ∈ lw_all := lw_g (lw_at lw_m4 179 rfl) rfl
theorem q1032 : (Jvm.Cond.laysFinal "VotingHuts$Message" "VotingHuts$Message" "before" "[[I") ∈ lw_all := lw_g (lw_at lw_m4 180 rfl) rfl
theorem q1033 : (Jvm.Cond.soleField "VotingHuts$Message" "before") ∈ lw_all := lw_g (lw_at lw_m4 181 rfl) rfl
theorem q1034 : (Jvm.Cond.laysFinal "VotingHuts$Message" "VotingHuts$Message" "copies" "[[I") ∈ lw_all := lw_g (lw_at lw_m4 182 rfl) rfl
theorem q1035 : (Jvm.Cond.soleField "VotingHuts$Message" "copies") ∈ lw_all := lw_g (lw_at lw_m4 183 rfl) rfl
theorem q1036 : (Jvm.Cond.laysFinal "VotingHuts$Message" "VotingHuts$Message" "hourSent" "I") ∈ lw_all := lw_g (lw_at lw_m4 184 rfl) rfl
theorem q1037 : (Jvm.Cond.soleField "VotingHuts$Message" "hourSent") ∈ lw_all := lw_g (lw_at lw_m4 185 rfl) rfl
theorem q1038 : (Jvm.Cond.lays "VotingHuts$Message" "VotingHuts$Message" "level" "I") ∈ lw_all := lw_g (lw_at lw_m4 186 rfl) rfl
theorem q1039 : (Jvm.Cond.soleField "VotingHuts$Message" "level") ∈ lw_all := lw_g (lw_at lw_m4 187 rfl) rfl
theorem q1040 : (Jvm.Cond.lays "VotingHuts$Message" "VotingHuts$Message" "asked" "I") ∈ lw_all := lw_g (lw_at lw_m4 188 rfl) rfl
theorem q1041 : (Jvm.Cond.soleField "VotingHuts$Message" "asked") ∈ lw_all := lw_g (lw_at lw_m4 189 rfl) rfl
theorem q1042 : (Jvm.Cond.lays "VotingHuts$Message" "VotingHuts$Message" "arrived" "I") ∈ lw_all := lw_g (lw_at lw_m4 190 rfl) rfl
theorem q1043 : (Jvm.Cond.soleField "VotingHuts$Message" "arrived") ∈ lw_all := lw_g (lw_at lw_m4 191 rfl) rfl
theorem q1044 : (Jvm.Cond.superclass "VotingHuts$Message" "java/lang/Object") ∈ lw_all := lw_g (lw_at lw_m4 192 rfl) rfl
theorem q1045 : (Jvm.Cond.methodLink "VotingHuts$Message" (36 : Nat) ({ cls := "java/lang/System", name := "arraycopy", desc := "(Ljava/lang/Object;ILjava/lang/Object;II)V" } : Jvm.MethodName)) ∈ lw_all := lw_g (lw_at lw_m4 193 rfl) rfl
theorem q1078 : (Jvm.Cond.selects "VotingHuts$Message" ({ cls := "java/lang/Object", name := "getClass", desc := "()Ljava/lang/Class;" } : Jvm.MethodName) ({ cls := "java/lang/Object", name := "getClass", desc := "()Ljava/lang/Class;" } : Jvm.MethodName)) ∈ lw_all := lw_g (lw_at lw_m4 226 rfl) rfl
theorem q1270 : (Jvm.Cond.instanceMethod ({ cls := "VotingHuts$Message", name := "unsure", desc := "()I" } : Jvm.MethodName)) ∈ lw_all := lw_g (lw_at lw_m5 178 rfl) rfl
theorem q1271 : (Jvm.Cond.selects "VotingHuts$Message" ({ cls := "VotingHuts$Message", name := "unsure", desc := "()I" } : Jvm.MethodName) ({ cls := "VotingHuts$Message", name := "unsure", desc := "()I" } : Jvm.MethodName)) ∈ lw_all := lw_g (lw_at lw_m5 179 rfl) rfl
theorem q1272 : (Jvm.Cond.code ({ cls := "VotingHuts$Message", name := "unsure", desc := "()I" } : Jvm.MethodName) prog_5_method_10_code (1 : Nat) (Option.some Jvm.ClassFile.FieldType.int)) ∈ lw_all := lw_g (lw_at lw_m5 180 rfl) rfl
theorem q1273 : (Jvm.Cond.methodLink "VotingHuts$Message" (76 : Nat) ({ cls := "VotingHuts$Message", name := "unsure", desc := "(I)I" } : Jvm.MethodName)) ∈ lw_all := lw_g (lw_at lw_m5 181 rfl) rfl
theorem q1274 : (Jvm.Cond.instanceMethod ({ cls := "VotingHuts$Message", name := "unsure", desc := "(I)I" } : Jvm.MethodName)) ∈ lw_all := lw_g (lw_at lw_m5 182 rfl) rfl
theorem q1275 : (Jvm.Cond.selects "VotingHuts$Message" ({ cls := "VotingHuts$Message", name := "unsure", desc := "(I)I" } : Jvm.MethodName) ({ cls := "VotingHuts$Message", name := "unsure", desc := "(I)I" } : Jvm.MethodName)) ∈ lw_all := lw_g (lw_at lw_m5 183 rfl) rfl
theorem q1276 : (Jvm.Cond.code ({ cls := "VotingHuts$Message", name := "unsure", desc := "(I)I" } : Jvm.MethodName) prog_5_method_9_code (7 : Nat) (Option.some Jvm.ClassFile.FieldType.int)) ∈ lw_all := lw_g (lw_at lw_m5 184 rfl) rfl
theorem q1277 : (Jvm.Cond.methodLinkNest "VotingHuts$Message" (72 : Nat) ({ cls := "VotingHuts", name := "flag", desc := "(Z)I" } : Jvm.MethodName) "VotingHuts") ∈ lw_tbl := lw_at lw_m5 185 rfl
theorem q1279 : (Jvm.Cond.instanceMethod ({ cls := "VotingHuts$Message", name := "passes", desc := "(LVotingHuts$Wires;III)I" } : Jvm.MethodName)) ∈ lw_all := lw_g (lw_at lw_m5 187 rfl) rfl
theorem q1280 : (Jvm.Cond.selects "VotingHuts$Message" ({ cls := "VotingHuts$Message", name := "passes", desc := "(LVotingHuts$Wires;III)I" } : Jvm.MethodName) ({ cls := "VotingHuts$Message", name := "passes", desc := "(LVotingHuts$Wires;III)I" } : Jvm.MethodName)) ∈ lw_all := lw_g (lw_at lw_m5 188 rfl) rfl
theorem q1281 : (Jvm.Cond.code ({ cls := "VotingHuts$Message", name := "passes", desc := "(LVotingHuts$Wires;III)I" } : Jvm.MethodName) prog_5_method_12_code (8 : Nat) (Option.some Jvm.ClassFile.FieldType.int)) ∈ lw_all := lw_g (lw_at lw_m5 189 rfl) rfl
theorem q1282 : (Jvm.Cond.methodLink "VotingHuts$Message" (83 : Nat) ({ cls := "VotingHuts$Message", name := "next", desc := "(II)I" } : Jvm.MethodName)) ∈ lw_all := lw_g (lw_at lw_m5 190 rfl) rfl
theorem q1283 : (Jvm.Cond.instanceMethod ({ cls := "VotingHuts$Message", name := "next", desc := "(II)I" } : Jvm.MethodName)) ∈ lw_all := lw_g (lw_at lw_m5 191 rfl) rfl
theorem q1284 : (Jvm.Cond.selects "VotingHuts$Message" ({ cls := "VotingHuts$Message", name := "next", desc := "(II)I" } : Jvm.MethodName) ({ cls := "VotingHuts$Message", name := "next", desc := "(II)I" } : Jvm.MethodName)) ∈ lw_all := lw_g (lw_at lw_m5 192 rfl) rfl
theorem q1285 : (Jvm.Cond.code ({ cls := "VotingHuts$Message", name := "next", desc := "(II)I" } : Jvm.MethodName) prog_5_method_11_code (3 : Nat) (Option.some Jvm.ClassFile.FieldType.int)) ∈ lw_all := lw_g (lw_at lw_m5 193 rfl) rfl
theorem q1286 : (Jvm.Cond.methodLink "VotingHuts$Message" (80 : Nat) ({ cls := "VotingHuts$Message", name := "unsure", desc := "()I" } : Jvm.MethodName)) ∈ lw_all := lw_g (lw_at lw_m5 194 rfl) rfl
theorem q1287 : (Jvm.Cond.methodLink "VotingHuts$Message" (86 : Nat) ({ cls := "VotingHuts$Message", name := "length", desc := "()I" } : Jvm.MethodName)) ∈ lw_all := lw_g (lw_at lw_m5 195 rfl) rfl
theorem q1288 : (Jvm.Cond.instanceMethod ({ cls := "VotingHuts$Message", name := "length", desc := "()I" } : Jvm.MethodName)) ∈ lw_all := lw_g (lw_at lw_m5 196 rfl) rfl
theorem q1289 : (Jvm.Cond.selects "VotingHuts$Message" ({ cls := "VotingHuts$Message", name := "length", desc := "()I" } : Jvm.MethodName) ({ cls := "VotingHuts$Message", name := "length", desc := "()I" } : Jvm.MethodName)) ∈ lw_all := lw_g (lw_at lw_m5 197 rfl) rfl
theorem q1290 : (Jvm.Cond.code ({ cls := "VotingHuts$Message", name := "length", desc := "()I" } : Jvm.MethodName) prog_5_method_5_code (1 : Nat) (Option.some Jvm.ClassFile.FieldType.int)) ∈ lw_all := lw_g (lw_at lw_m5 198 rfl) rfl
theorem q1291 : (Jvm.Cond.methodLink "VotingHuts$Message" (89 : Nat) ({ cls := "VotingHuts$Message", name := "gets", desc := "(LVotingHuts$Wires;III)V" } : Jvm.MethodName)) ∈ lw_all := lw_g (lw_at lw_m5 199 rfl) rfl
theorem q1292 : (Jvm.Cond.privateMethod ({ cls := "VotingHuts$Message", name := "gets", desc := "(LVotingHuts$Wires;III)V" } : Jvm.MethodName)) ∈ lw_tbl := lw_at lw_m5 200 rfl
theorem q1293 : (Jvm.Cond.instanceMethod ({ cls := "VotingHuts$Message", name := "gets", desc := "(LVotingHuts$Wires;III)V" } : Jvm.MethodName)) ∈ lw_all := lw_g (lw_at lw_m5 201 rfl) rfl
theorem q1294 : (Jvm.Cond.code ({ cls := "VotingHuts$Message", name := "gets", desc := "(LVotingHuts$Wires;III)V" } : Jvm.MethodName) prog_5_method_8_code (7 : Nat) (Option.none : Option Jvm.ClassFile.FieldType)) ∈ lw_all := lw_g (lw_at lw_m5 202 rfl) rfl
theorem q1295 : (Jvm.Cond.methodLinkNest "VotingHuts$Message" (59 : Nat) ({ cls := "VotingHuts", name := "wireOf", desc := "(III)I" } : Jvm.MethodName) "VotingHuts") ∈ lw_tbl := lw_at lw_m5 203 rfl
theorem q1296 : (Jvm.Cond.methodLink "VotingHuts$Message" (62 : Nat) ({ cls := "VotingHuts$Wires", name := "carries", desc := "(IIII)I" } : Jvm.MethodName)) ∈ lw_all := lw_g (lw_at lw_m5 204 rfl) rfl
theorem q1308 : (Jvm.Cond.methodLink "VotingHuts$Message" (68 : Nat) ({ cls := "VotingHuts$Message", name := "voted", desc := "(II)I" } : Jvm.MethodName)) ∈ lw_all := lw_g (lw_at lw_m5 216 rfl) rfl
theorem q1309 : (Jvm.Cond.privateMethod ({ cls := "VotingHuts$Message", name := "voted", desc := "(II)I" } : Jvm.MethodName)) ∈ lw_tbl := lw_at lw_m5 217 rfl
theorem q1310 : (Jvm.Cond.instanceMethod ({ cls := "VotingHuts$Message", name := "voted", desc := "(II)I" } : Jvm.MethodName)) ∈ lw_all := lw_g (lw_at lw_m5 218 rfl) rfl
theorem q1311 : (Jvm.Cond.code ({ cls := "VotingHuts$Message", name := "voted", desc := "(II)I" } : Jvm.MethodName) prog_5_method_7_code (3 : Nat) (Option.some Jvm.ClassFile.FieldType.int)) ∈ lw_all := lw_g (lw_at lw_m5 219 rfl) rfl
theorem q1312 : (Jvm.Cond.methodLink "VotingHuts$Message" (52 : Nat) ({ cls := "VotingHuts$Message", name := "copy", desc := "(III)I" } : Jvm.MethodName)) ∈ lw_all := lw_g (lw_at lw_m5 220 rfl) rfl
theorem q1313 : (Jvm.Cond.instanceMethod ({ cls := "VotingHuts$Message", name := "copy", desc := "(III)I" } : Jvm.MethodName)) ∈ lw_all := lw_g (lw_at lw_m5 221 rfl) rfl
theorem q1314 : (Jvm.Cond.selects "VotingHuts$Message" ({ cls := "VotingHuts$Message", name := "copy", desc := "(III)I" } : Jvm.MethodName) ({ cls := "VotingHuts$Message", name := "copy", desc := "(III)I" } : Jvm.MethodName)) ∈ lw_all := lw_g (lw_at lw_m5 222 rfl) rfl
theorem q1315 : (Jvm.Cond.code ({ cls := "VotingHuts$Message", name := "copy", desc := "(III)I" } : Jvm.MethodName) prog_5_method_6_code (4 : Nat) (Option.some Jvm.ClassFile.FieldType.int)) ∈ lw_all := lw_g (lw_at lw_m5 223 rfl) rfl
theorem q1316 : (Jvm.Cond.methodLinkNest "VotingHuts$Message" (56 : Nat) ({ cls := "VotingHuts", name := "agreed", desc := "(III)I" } : Jvm.MethodName) "VotingHuts") ∈ lw_tbl := lw_at lw_m5 224 rfl
theorem q1319 : (Jvm.Cond.methodLink "VotingHuts$Message" (42 : Nat) ({ cls := "VotingHuts$Message", name := "takes", desc := "([[I[[I)V" } : Jvm.MethodName)) ∈ lw_all := lw_g (lw_at lw_m5 227 rfl) rfl
theorem q1320 : (Jvm.Cond.static ({ cls := "VotingHuts$Message", name := "takes", desc := "([[I[[I)V" } : Jvm.MethodName)) ∈ lw_all := lw_g (lw_at lw_m5 228 rfl) rfl
theorem q1321 : (Jvm.Cond.code ({ cls := "VotingHuts$Message", name := "takes", desc := "([[I[[I)V" } : Jvm.MethodName) prog_5_method_4_code (3 : Nat) (Option.none : Option Jvm.ClassFile.FieldType)) ∈ lw_all := lw_g (lw_at lw_m5 229 rfl) rfl
theorem q1462 : (Jvm.Cond.instanceMethod ({ cls := "VotingHuts$Message", name := "wrong", desc := "(I)I" } : Jvm.MethodName)) ∈ lw_all := lw_g (lw_at lw_m6 130 rfl) rfl
theorem q1463 : (Jvm.Cond.selects "VotingHuts$Message" ({ cls := "VotingHuts$Message", name := "wrong", desc := "(I)I" } : Jvm.MethodName) ({ cls := "VotingHuts$Message", name := "wrong", desc := "(I)I" } : Jvm.MethodName)) ∈ lw_all := lw_g (lw_at lw_m6 131 rfl) rfl
theorem q1464 : (Jvm.Cond.code ({ cls := "VotingHuts$Message", name := "wrong", desc := "(I)I" } : Jvm.MethodName) prog_5_method_13_code (4 : Nat) (Option.some Jvm.ClassFile.FieldType.int)) ∈ lw_all := lw_g (lw_at lw_m6 132 rfl) rfl
theorem q1509 : (Jvm.Cond.instanceMethod ({ cls := "VotingHuts$Message", name := "vote", desc := "(II)I" } : Jvm.MethodName)) ∈ lw_all := lw_g (lw_at lw_m6 177 rfl) rfl
theorem q1510 : (Jvm.Cond.selects "VotingHuts$Message" ({ cls := "VotingHuts$Message", name := "vote", desc := "(II)I" } : Jvm.MethodName) ({ cls := "VotingHuts$Message", name := "vote", desc := "(II)I" } : Jvm.MethodName)) ∈ lw_all := lw_g (lw_at lw_m6 178 rfl) rfl
theorem q1511 : (Jvm.Cond.code ({ cls := "VotingHuts$Message", name := "vote", desc := "(II)I" } : Jvm.MethodName) prog_5_method_14_code (6 : Nat) (Option.some Jvm.ClassFile.FieldType.int)) ∈ lw_all := lw_g (lw_at lw_m6 179 rfl) rfl
theorem q1535 : (Jvm.Cond.instanceMethod ({ cls := "VotingHuts$Message", name := "believed", desc := "(I)I" } : Jvm.MethodName)) ∈ lw_all := lw_g (lw_at lw_m6 203 rfl) rfl
theorem q1536 : (Jvm.Cond.selects "VotingHuts$Message" ({ cls := "VotingHuts$Message", name := "believed", desc := "(I)I" } : Jvm.MethodName) ({ cls := "VotingHuts$Message", name := "believed", desc := "(I)I" } : Jvm.MethodName)) ∈ lw_all := lw_g (lw_at lw_m6 204 rfl) rfl
theorem q1537 : (Jvm.Cond.code ({ cls := "VotingHuts$Message", name := "believed", desc := "(I)I" } : Jvm.MethodName) prog_5_method_15_code (2 : Nat) (Option.some Jvm.ClassFile.FieldType.int)) ∈ lw_all := lw_g (lw_at lw_m6 205 rfl) rfl
theorem q1546 : (Jvm.Cond.instanceMethod ({ cls := "VotingHuts$Message", name := "right", desc := "()I" } : Jvm.MethodName)) ∈ lw_all := lw_g (lw_at lw_m6 214 rfl) rfl
theorem q1547 : (Jvm.Cond.selects "VotingHuts$Message" ({ cls := "VotingHuts$Message", name := "right", desc := "()I" } : Jvm.MethodName) ({ cls := "VotingHuts$Message", name := "right", desc := "()I" } : Jvm.MethodName)) ∈ lw_all := lw_g (lw_at lw_m6 215 rfl) rfl
theorem q1548 : (Jvm.Cond.code ({ cls := "VotingHuts$Message", name := "right", desc := "()I" } : Jvm.MethodName) prog_5_method_16_code (3 : Nat) (Option.some Jvm.ClassFile.FieldType.int)) ∈ lw_all := lw_g (lw_at lw_m6 216 rfl) rfl
theorem q1549 : (Jvm.Cond.methodLink "VotingHuts$Message" (93 : Nat) ({ cls := "VotingHuts$Message", name := "believed", desc := "(I)I" } : Jvm.MethodName)) ∈ lw_all := lw_g (lw_at lw_m6 217 rfl) rfl
theorem q1558 : (Jvm.Cond.instanceMethod ({ cls := "VotingHuts$Message", name := "liar", desc := "()I" } : Jvm.MethodName)) ∈ lw_all := lw_g (lw_at lw_m6 226 rfl) rfl
theorem q1559 : (Jvm.Cond.selects "VotingHuts$Message" ({ cls := "VotingHuts$Message", name := "liar", desc := "()I" } : Jvm.MethodName) ({ cls := "VotingHuts$Message", name := "liar", desc := "()I" } : Jvm.MethodName)) ∈ lw_all := lw_g (lw_at lw_m6 227 rfl) rfl
theorem q1560 : (Jvm.Cond.code ({ cls := "VotingHuts$Message", name := "liar", desc := "()I" } : Jvm.MethodName) prog_5_method_17_code (6 : Nat) (Option.some Jvm.ClassFile.FieldType.int)) ∈ lw_all := lw_g (lw_at lw_m6 228 rfl) rfl
theorem q1569 : (Jvm.Cond.instanceMethod ({ cls := "VotingHuts$Message", name := "firstWrong", desc := "()I" } : Jvm.MethodName)) ∈ lw_all := lw_g (lw_at lw_m6 237 rfl) rfl
theorem q1570 : (Jvm.Cond.selects "VotingHuts$Message" ({ cls := "VotingHuts$Message", name := "firstWrong", desc := "()I" } : Jvm.MethodName) ({ cls := "VotingHuts$Message", name := "firstWrong", desc := "()I" } : Jvm.MethodName)) ∈ lw_all := lw_g (lw_at lw_m6 238 rfl) rfl
theorem q1571 : (Jvm.Cond.code ({ cls := "VotingHuts$Message", name := "firstWrong", desc := "()I" } : Jvm.MethodName) prog_5_method_18_code (2 : Nat) (Option.some Jvm.ClassFile.FieldType.int)) ∈ lw_all := lw_g (lw_at lw_m6 239 rfl) rfl
theorem q1580 : (Jvm.Cond.instanceMethod ({ cls := "VotingHuts$Message", name := "doubtful", desc := "()I" } : Jvm.MethodName)) ∈ lw_all := lw_g (lw_at lw_m7 8 rfl) rfl
theorem q1581 : (Jvm.Cond.selects "VotingHuts$Message" ({ cls := "VotingHuts$Message", name := "doubtful", desc := "()I" } : Jvm.MethodName) ({ cls := "VotingHuts$Message", name := "doubtful", desc := "()I" } : Jvm.MethodName)) ∈ lw_all := lw_g (lw_at lw_m7 9 rfl) rfl
theorem q1582 : (Jvm.Cond.code ({ cls := "VotingHuts$Message", name := "doubtful", desc := "()I" } : Jvm.MethodName) prog_5_method_20_code (3 : Nat) (Option.some Jvm.ClassFile.FieldType.int)) ∈ lw_all := lw_g (lw_at lw_m7 10 rfl) rfl
theorem q1591 : (Jvm.Cond.instanceMethod ({ cls := "VotingHuts$Message", name := "agreeing", desc := "()I" } : Jvm.MethodName)) ∈ lw_all := lw_g (lw_at lw_m7 19 rfl) rfl
theorem q1592 : (Jvm.Cond.selects "VotingHuts$Message" ({ cls := "VotingHuts$Message", name := "agreeing", desc := "()I" } : Jvm.MethodName) ({ cls := "VotingHuts$Message", name := "agreeing", desc := "()I" } : Jvm.MethodName)) ∈ lw_all := lw_g (lw_at lw_m7 20 rfl) rfl
theorem q1593 : (Jvm.Cond.code ({ cls := "VotingHuts$Message", name := "agreeing", desc := "()I" } : Jvm.MethodName) prog_5_method_21_code (4 : Nat) (Option.some Jvm.ClassFile.FieldType.int)) ∈ lw_all := lw_g (lw_at lw_m7 21 rfl) rfl
theorem q1594 : (Jvm.Cond.methodLink "VotingHuts$Message" (96 : Nat) ({ cls := "VotingHuts$Message", name := "alike", desc := "(II)I" } : Jvm.MethodName)) ∈ lw_all := lw_g (lw_at lw_m7 22 rfl) rfl
theorem q1595 : (Jvm.Cond.privateMethod ({ cls := "VotingHuts$Message", name := "alike", desc := "(II)I" } : Jvm.MethodName)) ∈ lw_tbl := lw_at lw_m7 23 rfl
theorem q1596 : (Jvm.Cond.instanceMethod ({ cls := "VotingHuts$Message", name := "alike", desc := "(II)I" } : Jvm.MethodName)) ∈ lw_all := lw_g (lw_at lw_m7 24 rfl) rfl
theorem q1597 : (Jvm.Cond.code ({ cls := "VotingHuts$Message", name := "alike", desc := "(II)I" } : Jvm.MethodName) prog_5_method_19_code (5 : Nat) (Option.some Jvm.ClassFile.FieldType.int)) ∈ lw_all := lw_g (lw_at lw_m7 25 rfl) rfl
theorem q1632 : (Jvm.Cond.instanceMethod ({ cls := "VotingHuts$Message", name := "gap", desc := "()I" } : Jvm.MethodName)) ∈ lw_all := lw_g (lw_at lw_m7 60 rfl) rfl
theorem q1633 : (Jvm.Cond.selects "VotingHuts$Message" ({ cls := "VotingHuts$Message", name := "gap", desc := "()I" } : Jvm.MethodName) ({ cls := "VotingHuts$Message", name := "gap", desc := "()I" } : Jvm.MethodName)) ∈ lw_all := lw_g (lw_at lw_m7 61 rfl) rfl
theorem q1634 : (Jvm.Cond.code ({ cls := "VotingHuts$Message", name := "gap", desc := "()I" } : Jvm.MethodName) prog_5_method_22_code (4 : Nat) (Option.some Jvm.ClassFile.FieldType.int)) ∈ lw_all := lw_g (lw_at lw_m7 62 rfl) rfl
theorem q1724 : (Jvm.Cond.instanceMethod ({ cls := "VotingHuts$Message", name := "<init>", desc := "(LVotingHuts$Message;)V" } : Jvm.MethodName)) ∈ lw_all := lw_g (lw_at lw_m7 152 rfl) rfl
theorem q1725 : (Jvm.Cond.code ({ cls := "VotingHuts$Message", name := "<init>", desc := "(LVotingHuts$Message;)V" } : Jvm.MethodName) prog_5_method_3_code (2 : Nat) (Option.none : Option Jvm.ClassFile.FieldType)) ∈ lw_all := lw_g (lw_at lw_m7 153 rfl) rfl
theorem q2936 : (Jvm.Cond.castable "VotingHuts$Message" "java/lang/Object") ∈ lw_tbl := lw_at lw_m12 164 rfl
theorem in_X8 : ∀ w ∈ wsX80, w ∈ lw_all := lw_in wsX80 [1028, 1030, 1032, 1034, 1036, 1038, 1040, 1042] (by decide +kernel) (by decide +kernel)
/-! VotingHuts$Entry -/
set_option maxRecDepth 100000
def RX9 : String := "VotingHuts$Entry"
def TX9 : u_T := fun k => match k with
  | 0 => ("VotingHuts$Entry", "hour", "I", true)
  | 1 => ("VotingHuts$Entry", "kind", "I", true)
  | 2 => ("VotingHuts$Entry", "message", "I", true)
  | _ => ("VotingHuts$Entry", "level", "I", true)
def tyX9 : Nat → FieldType := fun k => match k with
  | 0 => .int
  | 1 => .int
  | 2 => .int
  | _ => .int
abbrev wsX90 : List Cond := u_ws RX9 TX9 4
theorem nmX9 : ∀ a, a < 4 → ∀ b, b < 4 → a ≠ b → (TX9 a).2.1 ≠ (TX9 b).2.1 := by decide +kernel
theorem tyX9_ok : ∀ k, k < 4 → parseFieldDescriptor (TX9 k).2.2.1 = some (tyX9 k) := by decide +kernel
abbrev cX9_init : ByteArray := prog_2_method_1_code
def yX9_init : MethodName := ⟨RX9, "<init>", "(IIII)V"⟩
def dkwX9_init_1 : List UInt8 := [181, 0, 19, 177]
abbrev dktX9_init_1 : List UInt8 := dkwX9_init_1 ++ []
def dkwX9_init_0 : List UInt8 := [42, 183, 0, 1, 42, 27, 181, 0, 7, 42, 28, 181, 0, 13, 42, 29, 181, 0, 16, 42, 21, 4]
abbrev dktX9_init_0 : List UInt8 := dkwX9_init_0 ++ dktX9_init_1
theorem dksX9_init_0 : cX9_init.data.toList.drop 0 = dktX9_init_0 := by decide +kernel
theorem dksX9_init_1 : cX9_init.data.toList.drop 22 = dktX9_init_1 := dk_seg dksX9_init_0 22 rfl rfl
theorem dX9_init_0 : decode cX9_init 0 = .ok (.aload_n 0, 1) := dk_42 (dk_at dksX9_init_0 0 rfl rfl)
theorem dX9_init_1 : decode cX9_init 1 = .ok (.invokespecial 1, 3) := dk_183 0 1 (dk_at dksX9_init_0 1 rfl rfl)
theorem dX9_init_4 : decode cX9_init 4 = .ok (.aload_n 0, 1) := dk_42 (dk_at dksX9_init_0 4 rfl rfl)
theorem dX9_init_5 : decode cX9_init 5 = .ok (.iload_n 1, 1) := dk_27 (dk_at dksX9_init_0 5 rfl rfl)
theorem dX9_init_6 : decode cX9_init 6 = .ok (.putfield 7, 3) := dk_181 0 7 (dk_at dksX9_init_0 6 rfl rfl)
theorem dX9_init_9 : decode cX9_init 9 = .ok (.aload_n 0, 1) := dk_42 (dk_at dksX9_init_0 9 rfl rfl)
theorem dX9_init_10 : decode cX9_init 10 = .ok (.iload_n 2, 1) := dk_28 (dk_at dksX9_init_0 10 rfl rfl)
theorem dX9_init_11 : decode cX9_init 11 = .ok (.putfield 13, 3) := dk_181 0 13 (dk_at dksX9_init_0 11 rfl rfl)
theorem dX9_init_14 : decode cX9_init 14 = .ok (.aload_n 0, 1) := dk_42 (dk_at dksX9_init_0 14 rfl rfl)
theorem dX9_init_15 : decode cX9_init 15 = .ok (.iload_n 3, 1) := dk_29 (dk_at dksX9_init_0 15 rfl rfl)
theorem dX9_init_16 : decode cX9_init 16 = .ok (.putfield 16, 3) := dk_181 0 16 (dk_at dksX9_init_0 16 rfl rfl)
theorem dX9_init_19 : decode cX9_init 19 = .ok (.aload_n 0, 1) := dk_42 (dk_at dksX9_init_0 19 rfl rfl)
theorem dX9_init_20 : decode cX9_init 20 = .ok (.iload 4, 2) := dk_21 4 (dk_at dksX9_init_0 20 rfl rfl)
theorem dX9_init_22 : decode cX9_init 22 = .ok (.putfield 19, 3) := dk_181 0 19 (dk_at dksX9_init_1 0 rfl rfl)
theorem dX9_init_25 : decode cX9_init 25 = .ok (.return_, 1) := dk_177 (dk_at dksX9_init_1 3 rfl rfl)
abbrev cX9_isOf : ByteArray := prog_2_method_2_code
def yX9_isOf : MethodName := ⟨RX9, "isOf", "(I)Z"⟩
def dkwX9_isOf_0 : List UInt8 := [42, 180, 0, 16, 27, 160, 0, 7, 4, 167, 0, 4, 3, 172]
abbrev dktX9_isOf_0 : List UInt8 := dkwX9_isOf_0 ++ []
theorem dksX9_isOf_0 : cX9_isOf.data.toList.drop 0 = dktX9_isOf_0 := by decide +kernel
theorem dX9_isOf_0 : decode cX9_isOf 0 = .ok (.aload_n 0, 1) := dk_42 (dk_at dksX9_isOf_0 0 rfl rfl)
theorem dX9_isOf_1 : decode cX9_isOf 1 = .ok (.getfield 16, 3) := dk_180 0 16 (dk_at dksX9_isOf_0 1 rfl rfl)
theorem dX9_isOf_4 : decode cX9_isOf 4 = .ok (.iload_n 1, 1) := dk_27 (dk_at dksX9_isOf_0 4 rfl rfl)
theorem dX9_isOf_5 : decode cX9_isOf 5 = .ok (.if_icmp .ne 7, 3) := dk_160 0 7 (dk_at dksX9_isOf_0 5 rfl rfl)
theorem dX9_isOf_8 : decode cX9_isOf 8 = .ok (.iconst 1, 1) := dk_4 (dk_at dksX9_isOf_0 8 rfl rfl)
theorem dX9_isOf_9 : decode cX9_isOf 9 = .ok (.goto 4, 3) := dk_167 0 4 (dk_at dksX9_isOf_0 9 rfl rfl)
theorem dX9_isOf_12 : decode cX9_isOf 12 = .ok (.iconst 0, 1) := dk_3 (dk_at dksX9_isOf_0 12 rfl rfl)
theorem dX9_isOf_13 : decode cX9_isOf 13 = .ok (.ireturn, 1) := dk_172 (dk_at dksX9_isOf_0 13 rfl rfl)
abbrev cX9_behind : ByteArray := prog_2_method_5_code
def yX9_behind : MethodName := ⟨RX9, "behind", "(I)Ljava/lang/Object;"⟩
def dkwX9_behind_0 : List UInt8 := [42, 27, 182, 0, 25, 176]
abbrev dktX9_behind_0 : List UInt8 := dkwX9_behind_0 ++ []
theorem dksX9_behind_0 : cX9_behind.data.toList.drop 0 = dktX9_behind_0 := by decide +kernel
theorem dX9_behind_0 : decode cX9_behind 0 = .ok (.aload_n 0, 1) := dk_42 (dk_at dksX9_behind_0 0 rfl rfl)
theorem dX9_behind_1 : decode cX9_behind 1 = .ok (.iload_n 1, 1) := dk_27 (dk_at dksX9_behind_0 1 rfl rfl)
theorem dX9_behind_2 : decode cX9_behind 2 = .ok (.invokevirtual 25, 3) := dk_182 0 25 (dk_at dksX9_behind_0 2 rfl rfl)
theorem dX9_behind_5 : decode cX9_behind 5 = .ok (.areturn, 1) := dk_176 (dk_at dksX9_behind_0 5 rfl rfl)
abbrev cX9_behind_2 : ByteArray := prog_2_method_3_code
def yX9_behind_2 : MethodName := ⟨RX9, "behind", "(I)LVotingHuts$Entry;"⟩
def dkwX9_behind_2_1 : List UInt8 := [42, 180, 0, 16, 4, 100, 42, 180, 0, 19, 183, 0, 22, 176]
abbrev dktX9_behind_2_1 : List UInt8 := dkwX9_behind_2_1 ++ []
def dkwX9_behind_2_0 : List UInt8 := [42, 180, 0, 16, 27, 162, 0, 7, 42, 167, 0, 28, 187, 0, 8, 89, 42, 180, 0, 7, 42, 180, 0, 13]
abbrev dktX9_behind_2_0 : List UInt8 := dkwX9_behind_2_0 ++ dktX9_behind_2_1
theorem dksX9_behind_2_0 : cX9_behind_2.data.toList.drop 0 = dktX9_behind_2_0 := by decide +kernel
theorem dksX9_behind_2_1 : cX9_behind_2.data.toList.drop 24 = dktX9_behind_2_1 := dk_seg dksX9_behind_2_0 24 rfl rfl
theorem dX9_behind_2_0 : decode cX9_behind_2 0 = .ok (.aload_n 0, 1) := dk_42 (dk_at dksX9_behind_2_0 0 rfl rfl)
theorem dX9_behind_2_1 : decode cX9_behind_2 1 = .ok (.getfield 16, 3) := dk_180 0 16 (dk_at dksX9_behind_2_0 1 rfl rfl)
theorem dX9_behind_2_4 : decode cX9_behind_2 4 = .ok (.iload_n 1, 1) := dk_27 (dk_at dksX9_behind_2_0 4 rfl rfl)
theorem dX9_behind_2_5 : decode cX9_behind_2 5 = .ok (.if_icmp .ge 7, 3) := dk_162 0 7 (dk_at dksX9_behind_2_0 5 rfl rfl)
theorem dX9_behind_2_8 : decode cX9_behind_2 8 = .ok (.aload_n 0, 1) := dk_42 (dk_at dksX9_behind_2_0 8 rfl rfl)
theorem dX9_behind_2_9 : decode cX9_behind_2 9 = .ok (.goto 28, 3) := dk_167 0 28 (dk_at dksX9_behind_2_0 9 rfl rfl)
theorem dX9_behind_2_12 : decode cX9_behind_2 12 = .ok (.new 8, 3) := dk_187 0 8 (dk_at dksX9_behind_2_0 12 rfl rfl)
theorem dX9_behind_2_15 : decode cX9_behind_2 15 = .ok (.dup, 1) := dk_89 (dk_at dksX9_behind_2_0 15 rfl rfl)
theorem dX9_behind_2_16 : decode cX9_behind_2 16 = .ok (.aload_n 0, 1) := dk_42 (dk_at dksX9_behind_2_0 16 rfl rfl)
theorem dX9_behind_2_17 : decode cX9_behind_2 17 = .ok (.getfield 7, 3) := dk_180 0 7 (dk_at dksX9_behind_2_0 17 rfl rfl)
theorem dX9_behind_2_20 : decode cX9_behind_2 20 = .ok (.aload_n 0, 1) := dk_42 (dk_at dksX9_behind_2_0 20 rfl rfl)
theorem dX9_behind_2_21 : decode cX9_behind_2 21 = .ok (.getfield 13, 3) := dk_180 0 13 (dk_at dksX9_behind_2_0 21 rfl rfl)
theorem dX9_behind_2_24 : decode cX9_behind_2 24 = .ok (.aload_n 0, 1) := dk_42 (dk_at dksX9_behind_2_1 0 rfl rfl)
theorem dX9_behind_2_25 : decode cX9_behind_2 25 = .ok (.getfield 16, 3) := dk_180 0 16 (dk_at dksX9_behind_2_1 1 rfl rfl)
theorem dX9_behind_2_28 : decode cX9_behind_2 28 = .ok (.iconst 1, 1) := dk_4 (dk_at dksX9_behind_2_1 4 rfl rfl)
theorem dX9_behind_2_29 : decode cX9_behind_2 29 = .ok (.isub, 1) := dk_100 (dk_at dksX9_behind_2_1 5 rfl rfl)
theorem dX9_behind_2_30 : decode cX9_behind_2 30 = .ok (.aload_n 0, 1) := dk_42 (dk_at dksX9_behind_2_1 6 rfl rfl)
theorem dX9_behind_2_31 : decode cX9_behind_2 31 = .ok (.getfield 19, 3) := dk_180 0 19 (dk_at dksX9_behind_2_1 7 rfl rfl)
theorem dX9_behind_2_34 : decode cX9_behind_2 34 = .ok (.invokespecial 22, 3) := dk_183 0 22 (dk_at dksX9_behind_2_1 10 rfl rfl)
theorem dX9_behind_2_37 : decode cX9_behind_2 37 = .ok (.areturn, 1) := dk_176 (dk_at dksX9_behind_2_1 13 rfl rfl)
abbrev cX9_number : ByteArray := prog_2_method_4_code
def yX9_number : MethodName := ⟨RX9, "number", "(I)I"⟩
def dkwX9_number_1 : List UInt8 := [5, 160, 0, 10, 42, 180, 0, 16, 167, 0, 7, 42, 180, 0, 19, 172]
abbrev dktX9_number_1 : List UInt8 := dkwX9_number_1 ++ []
def dkwX9_number_0 : List UInt8 := [27, 154, 0, 10, 42, 180, 0, 7, 167, 0, 31, 27, 4, 160, 0, 10, 42, 180, 0, 13, 167, 0, 19, 27]
abbrev dktX9_number_0 : List UInt8 := dkwX9_number_0 ++ dktX9_number_1
theorem dksX9_number_0 : cX9_number.data.toList.drop 0 = dktX9_number_0 := by decide +kernel
theorem dksX9_number_1 : cX9_number.data.toList.drop 24 = dktX9_number_1 := dk_seg dksX9_number_0 24 rfl rfl
theorem dX9_number_0 : decode cX9_number 0 = .ok (.iload_n 1, 1) := dk_27 (dk_at dksX9_number_0 0 rfl rfl)
theorem dX9_number_1 : decode cX9_number 1 = .ok (.ifCond .ne 10, 3) := dk_154 0 10 (dk_at dksX9_number_0 1 rfl rfl)
theorem dX9_number_4 : decode cX9_number 4 = .ok (.aload_n 0, 1) := dk_42 (dk_at dksX9_number_0 4 rfl rfl)
theorem dX9_number_5 : decode cX9_number 5 = .ok (.getfield 7, 3) := dk_180 0 7 (dk_at dksX9_number_0 5 rfl rfl)
theorem dX9_number_8 : decode cX9_number 8 = .ok (.goto 31, 3) := dk_167 0 31 (dk_at dksX9_number_0 8 rfl rfl)
theorem dX9_number_11 : decode cX9_number 11 = .ok (.iload_n 1, 1) := dk_27 (dk_at dksX9_number_0 11 rfl rfl)
theorem dX9_number_12 : decode cX9_number 12 = .ok (.iconst 1, 1) := dk_4 (dk_at dksX9_number_0 12 rfl rfl)
theorem dX9_number_13 : decode cX9_number 13 = .ok (.if_icmp .ne 10, 3) := dk_160 0 10 (dk_at dksX9_number_0 13 rfl rfl)
theorem dX9_number_16 : decode cX9_number 16 = .ok (.aload_n 0, 1) := dk_42 (dk_at dksX9_number_0 16 rfl rfl)
theorem dX9_number_17 : decode cX9_number 17 = .ok (.getfield 13, 3) := dk_180 0 13 (dk_at dksX9_number_0 17 rfl rfl)
theorem dX9_number_20 : decode cX9_number 20 = .ok (.goto 19, 3) := dk_167 0 19 (dk_at dksX9_number_0 20 rfl rfl)
theorem dX9_number_23 : decode cX9_number 23 = .ok (.iload_n 1, 1) := dk_27 (dk_at dksX9_number_0 23 rfl rfl)
theorem dX9_number_24 : decode cX9_number 24 = .ok (.iconst 2, 1) := dk_5 (dk_at dksX9_number_1 0 rfl rfl)
theorem dX9_number_25 : decode cX9_number 25 = .ok (.if_icmp .ne 10, 3) := dk_160 0 10 (dk_at dksX9_number_1 1 rfl rfl)
theorem dX9_number_28 : decode cX9_number 28 = .ok (.aload_n 0, 1) := dk_42 (dk_at dksX9_number_1 4 rfl rfl)
theorem dX9_number_29 : decode cX9_number 29 = .ok (.getfield 16, 3) := dk_180 0 16 (dk_at dksX9_number_1 5 rfl rfl)
theorem dX9_number_32 : decode cX9_number 32 = .ok (.goto 7, 3) := dk_167 0 7 (dk_at dksX9_number_1 8 rfl rfl)
theorem dX9_number_35 : decode cX9_number 35 = .ok (.aload_n 0, 1) := dk_42 (dk_at dksX9_number_1 11 rfl rfl)
theorem dX9_number_36 : decode cX9_number 36 = .ok (.getfield 19, 3) := dk_180 0 19 (dk_at dksX9_number_1 12 rfl rfl)
theorem dX9_number_39 : decode cX9_number 39 = .ok (.ireturn, 1) := dk_172 (dk_at dksX9_number_1 15 rfl rfl)
theorem q165 : (Jvm.Cond.initialized "VotingHuts$Entry") ∈ lw_all := lw_g (lw_at lw_m1 33 rfl) rfl
theorem q1075 : (Jvm.Cond.selects "VotingHuts$Entry" ({ cls := "java/lang/Object", name := "getClass", desc := "()Ljava/lang/Class;" } : Jvm.MethodName) ({ cls := "java/lang/Object", name := "getClass", desc := "()Ljava/lang/Class;" } : Jvm.MethodName)) ∈ lw_all := lw_g (lw_at lw_m4 223 rfl) rfl
theorem q1109 : (Jvm.Cond.instantiable "VotingHuts$Entry" (4 : Nat)) ∈ lw_all := lw_g (lw_at lw_m5 17 rfl) rfl
theorem q1132 : (Jvm.Cond.instanceMethod ({ cls := "VotingHuts$Entry", name := "<init>", desc := "(IIII)V" } : Jvm.MethodName)) ∈ lw_all := lw_g (lw_at lw_m5 40 rfl) rfl
theorem q1133 : (Jvm.Cond.code ({ cls := "VotingHuts$Entry", name := "<init>", desc := "(IIII)V" } : Jvm.MethodName) prog_2_method_1_code (5 : Nat) (Option.none : Option Jvm.ClassFile.FieldType)) ∈ lw_all := lw_g (lw_at lw_m5 41 rfl) rfl
theorem q1134 : (Jvm.Cond.methodLink "VotingHuts$Entry" (1 : Nat) ({ cls := "java/lang/Object", name := "<init>", desc := "()V" } : Jvm.MethodName)) ∈ lw_all := lw_g (lw_at lw_m5 42 rfl) rfl
theorem q1135 : (Jvm.Cond.fieldLink "VotingHuts$Entry" (7 : Nat) "VotingHuts$Entry" "hour" "I") ∈ lw_all := lw_g (lw_at lw_m5 43 rfl) rfl
theorem q1137 : (Jvm.Cond.fieldLink "VotingHuts$Entry" (13 : Nat) "VotingHuts$Entry" "kind" "I") ∈ lw_all := lw_g (lw_at lw_m5 45 rfl) rfl
theorem q1139 : (Jvm.Cond.fieldLink "VotingHuts$Entry" (16 : Nat) "VotingHuts$Entry" "message" "I") ∈ lw_all := lw_g (lw_at lw_m5 47 rfl) rfl
theorem q1141 : (Jvm.Cond.fieldLink "VotingHuts$Entry" (19 : Nat) "VotingHuts$Entry" "level" "I") ∈ lw_all := lw_g (lw_at lw_m5 49 rfl) rfl
theorem q1142 : (Jvm.Cond.laysFinal "VotingHuts$Entry" "VotingHuts$Entry" "hour" "I") ∈ lw_all := lw_g (lw_at lw_m5 50 rfl) rfl
theorem q1143 : (Jvm.Cond.soleField "VotingHuts$Entry" "hour") ∈ lw_all := lw_g (lw_at lw_m5 51 rfl) rfl
theorem q1144 : (Jvm.Cond.laysFinal "VotingHuts$Entry" "VotingHuts$Entry" "kind" "I") ∈ lw_all := lw_g (lw_at lw_m5 52 rfl) rfl
theorem q1145 : (Jvm.Cond.soleField "VotingHuts$Entry" "kind") ∈ lw_all := lw_g (lw_at lw_m5 53 rfl) rfl
theorem q1146 : (Jvm.Cond.laysFinal "VotingHuts$Entry" "VotingHuts$Entry" "message" "I") ∈ lw_all := lw_g (lw_at lw_m5 54 rfl) rfl
theorem q1147 : (Jvm.Cond.soleField "VotingHuts$Entry" "message") ∈ lw_all := lw_g (lw_at lw_m5 55 rfl) rfl
theorem q1148 : (Jvm.Cond.laysFinal "VotingHuts$Entry" "VotingHuts$Entry" "level" "I") ∈ lw_all := lw_g (lw_at lw_m5 56 rfl) rfl
theorem q1149 : (Jvm.Cond.soleField "VotingHuts$Entry" "level") ∈ lw_all := lw_g (lw_at lw_m5 57 rfl) rfl
theorem q1150 : (Jvm.Cond.superclass "VotingHuts$Entry" "java/lang/Object") ∈ lw_all := lw_g (lw_at lw_m5 58 rfl) rfl
theorem q1204 : (Jvm.Cond.castable "VotingHuts$Entry" "VotingHuts$Told") ∈ lw_tbl := lw_at lw_m5 112 rfl
theorem q1205 : (Jvm.Cond.selects "VotingHuts$Entry" ({ cls := "VotingHuts$Told", name := "isOf", desc := "(I)Z" } : Jvm.MethodName) ({ cls := "VotingHuts$Entry", name := "isOf", desc := "(I)Z" } : Jvm.MethodName)) ∈ lw_all := lw_g (lw_at lw_m5 113 rfl) rfl
theorem q1206 : (Jvm.Cond.unhidden "VotingHuts$Entry" "isOf" "(I)Z") ∈ lw_tbl := lw_at lw_m5 114 rfl
theorem q1207 : (Jvm.Cond.instanceMethod ({ cls := "VotingHuts$Entry", name := "isOf", desc := "(I)Z" } : Jvm.MethodName)) ∈ lw_all := lw_g (lw_at lw_m5 115 rfl) rfl
theorem q1208 : (Jvm.Cond.publicMethod ({ cls := "VotingHuts$Entry", name := "isOf", desc := "(I)Z" } : Jvm.MethodName)) ∈ lw_tbl := lw_at lw_m5 116 rfl
theorem q1209 : (Jvm.Cond.code ({ cls := "VotingHuts$Entry", name := "isOf", desc := "(I)Z" } : Jvm.MethodName) prog_2_method_2_code (2 : Nat) (Option.some Jvm.ClassFile.FieldType.boolean)) ∈ lw_all := lw_g (lw_at lw_m5 117 rfl) rfl
theorem q1214 : (Jvm.Cond.selects "VotingHuts$Entry" ({ cls := "VotingHuts$Told", name := "behind", desc := "(I)Ljava/lang/Object;" } : Jvm.MethodName) ({ cls := "VotingHuts$Entry", name := "behind", desc := "(I)Ljava/lang/Object;" } : Jvm.MethodName)) ∈ lw_all := lw_g (lw_at lw_m5 122 rfl) rfl
theorem q1215 : (Jvm.Cond.unhidden "VotingHuts$Entry" "behind" "(I)Ljava/lang/Object;") ∈ lw_tbl := lw_at lw_m5 123 rfl
theorem q1216 : (Jvm.Cond.instanceMethod ({ cls := "VotingHuts$Entry", name := "behind", desc := "(I)Ljava/lang/Object;" } : Jvm.MethodName)) ∈ lw_all := lw_g (lw_at lw_m5 124 rfl) rfl
theorem q1217 : (Jvm.Cond.publicMethod ({ cls := "VotingHuts$Entry", name := "behind", desc := "(I)Ljava/lang/Object;" } : Jvm.MethodName)) ∈ lw_tbl := lw_at lw_m5 125 rfl
theorem q1218 : (Jvm.Cond.code ({ cls := "VotingHuts$Entry", name := "behind", desc := "(I)Ljava/lang/Object;" } : Jvm.MethodName) prog_2_method_5_code (2 : Nat) (Option.some (Jvm.ClassFile.FieldType.object "java/lang/Object"))) ∈ lw_all := lw_g (lw_at lw_m5 126 rfl) rfl
theorem q1219 : (Jvm.Cond.methodLink "VotingHuts$Entry" (25 : Nat) ({ cls := "VotingHuts$Entry", name := "behind", desc := "(I)LVotingHuts$Entry;" } : Jvm.MethodName)) ∈ lw_all := lw_g (lw_at lw_m5 127 rfl) rfl
theorem q1220 : (Jvm.Cond.instanceMethod ({ cls := "VotingHuts$Entry", name := "behind", desc := "(I)LVotingHuts$Entry;" } : Jvm.MethodName)) ∈ lw_all := lw_g (lw_at lw_m5 128 rfl) rfl
theorem q1221 : (Jvm.Cond.selects "VotingHuts$Entry" ({ cls := "VotingHuts$Entry", name := "behind", desc := "(I)LVotingHuts$Entry;" } : Jvm.MethodName) ({ cls := "VotingHuts$Entry", name := "behind", desc := "(I)LVotingHuts$Entry;" } : Jvm.MethodName)) ∈ lw_all := lw_g (lw_at lw_m5 129 rfl) rfl
theorem q1222 : (Jvm.Cond.code ({ cls := "VotingHuts$Entry", name := "behind", desc := "(I)LVotingHuts$Entry;" } : Jvm.MethodName) prog_2_method_3_code (2 : Nat) (Option.some (Jvm.ClassFile.FieldType.object "VotingHuts$Entry"))) ∈ lw_all := lw_g (lw_at lw_m5 130 rfl) rfl
theorem q1223 : (Jvm.Cond.classLink "VotingHuts$Entry" (8 : Nat) "VotingHuts$Entry") ∈ lw_all := lw_g (lw_at lw_m5 131 rfl) rfl
theorem q1224 : (Jvm.Cond.methodLink "VotingHuts$Entry" (22 : Nat) ({ cls := "VotingHuts$Entry", name := "<init>", desc := "(IIII)V" } : Jvm.MethodName)) ∈ lw_all := lw_g (lw_at lw_m5 132 rfl) rfl
theorem q1647 : (Jvm.Cond.instanceMethod ({ cls := "VotingHuts$Entry", name := "number", desc := "(I)I" } : Jvm.MethodName)) ∈ lw_all := lw_g (lw_at lw_m7 75 rfl) rfl
theorem q1648 : (Jvm.Cond.selects "VotingHuts$Entry" ({ cls := "VotingHuts$Entry", name := "number", desc := "(I)I" } : Jvm.MethodName) ({ cls := "VotingHuts$Entry", name := "number", desc := "(I)I" } : Jvm.MethodName)) ∈ lw_all := lw_g (lw_at lw_m7 76 rfl) rfl
theorem q1649 : (Jvm.Cond.code ({ cls := "VotingHuts$Entry", name := "number", desc := "(I)I" } : Jvm.MethodName) prog_2_method_4_code (2 : Nat) (Option.some Jvm.ClassFile.FieldType.int)) ∈ lw_all := lw_g (lw_at lw_m7 77 rfl) rfl
theorem q2937 : (Jvm.Cond.castable "VotingHuts$Entry" "java/lang/Object") ∈ lw_tbl := lw_at lw_m12 165 rfl
theorem in_X9 : ∀ w ∈ wsX90, w ∈ lw_all := lw_in wsX90 [1142, 1144, 1146, 1148] (by decide +kernel) (by decide +kernel)
