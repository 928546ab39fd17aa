/-! VotingHutsModel -/
set_option maxRecDepth 100000
def RX2 : String := "VotingHutsModel"
def TX2 : u_T := fun k => match k with
  | 0 => ("VotingHutsModel", "thrown", "I", false)
  | 1 => ("VotingHutsModel", "now", "[I", true)
  | 2 => ("VotingHutsModel", "aside", "[I", true)
  | 3 => ("VotingHutsModel", "undos", "[I", true)
  | 4 => ("VotingHutsModel", "saved", "[I", true)
  | 5 => ("VotingHutsModel", "isSaved", "[Z", true)
  | 6 => ("VotingHutsModel", "isThere", "Z", false)
  | 7 => ("VotingHutsModel", "undoMany", "I", false)
  | 8 => ("VotingHutsModel", "buffer", "[B", true)
  | 9 => ("VotingHutsModel", "buffered", "I", false)
  | 10 => ("VotingHutsModel", "parseCode", "I", false)
  | 11 => ("VotingHutsModel", "parseAt", "I", false)
  | 12 => ("VotingHutsModel", "size", "I", false)
  | 13 => ("VotingHutsModel", "cursor", "I", false)
  | 14 => ("VotingHutsModel", "start", "I", false)
  | 15 => ("VotingHutsModel", "token", "I", false)
  | 16 => ("VotingHutsModel", "ends", "[I", true)
  | 17 => ("VotingHutsModel", "others", "[I", true)
  | 18 => ("VotingHutsModel", "page", "[B", true)
  | 19 => ("VotingHutsModel", "pageSize", "I", false)
  | 20 => ("VotingHutsModel", "levelStorms", "[I", true)
  | _ => ("VotingHutsModel", "levelPhases", "[I", true)
def tyX2 : Nat → FieldType := fun k => match k with
  | 0 => .int
  | 1 => .array .int
  | 2 => .array .int
  | 3 => .array .int
  | 4 => .array .int
  | 5 => .array .boolean
  | 6 => .boolean
  | 7 => .int
  | 8 => .array .byte
  | 9 => .int
  | 10 => .int
  | 11 => .int
  | 12 => .int
  | 13 => .int
  | 14 => .int
  | 15 => .int
  | 16 => .array .int
  | 17 => .array .int
  | 18 => .array .byte
  | 19 => .int
  | 20 => .array .int
  | _ => .array .int
abbrev wsX20 : List Cond := u_ws RX2 TX2 22
set_option maxRecDepth 100000 in
theorem nmX2 : ∀ a, a < 22 → ∀ b, b < 22 → a ≠ b → (TX2 a).2.1 ≠ (TX2 b).2.1 := by decide +kernel
set_option maxRecDepth 100000 in
theorem tyX2_ok : ∀ k, k < 22 → parseFieldDescriptor (TX2 k).2.2.1 = some (tyX2 k) := by decide +kernel
abbrev cX2_init : ByteArray := prog_12_method_1_code
def yX2_init : MethodName := ⟨RX2, "<init>", "()V"⟩
def dkwX2_init_4 : List UInt8 := [42, 16, 9, 188, 10, 181, 0, 46, 177]
abbrev dktX2_init_4 : List UInt8 := dkwX2_init_4 ++ []
def dkwX2_init_3 : List UInt8 := [16, 12, 188, 10, 181, 0, 37, 42, 17, 2, 88, 188, 8, 181, 0, 40, 42, 16, 9, 188, 10, 181, 0, 43]
abbrev dktX2_init_3 : List UInt8 := dkwX2_init_3 ++ dktX2_init_4
def dkwX2_init_2 : List UInt8 := [42, 17, 1, 144, 188, 8, 181, 0, 26, 42, 2, 181, 0, 30, 42, 16, 12, 188, 10, 181, 0, 34, 42]
abbrev dktX2_init_2 : List UInt8 := dkwX2_init_2 ++ dktX2_init_3
def dkwX2_init_1 : List UInt8 := [17, 49, 64, 188, 10, 181, 0, 16, 42, 17, 12, 80, 188, 10, 181, 0, 19, 42, 5, 188, 4, 181, 0, 22]
abbrev dktX2_init_1 : List UInt8 := dkwX2_init_1 ++ dktX2_init_2
def dkwX2_init_0 : List UInt8 := [42, 183, 0, 1, 42, 17, 6, 40, 188, 10, 181, 0, 9, 42, 17, 6, 40, 188, 10, 181, 0, 13, 42]
abbrev dktX2_init_0 : List UInt8 := dkwX2_init_0 ++ dktX2_init_1
theorem dksX2_init_0 : cX2_init.data.toList.drop 0 = dktX2_init_0 := by decide +kernel
theorem dksX2_init_1 : cX2_init.data.toList.drop 23 = dktX2_init_1 := dk_seg dksX2_init_0 23 rfl rfl
theorem dksX2_init_2 : cX2_init.data.toList.drop 47 = dktX2_init_2 := dk_seg dksX2_init_1 24 rfl rfl
theorem dksX2_init_3 : cX2_init.data.toList.drop 70 = dktX2_init_3 := dk_seg dksX2_init_2 23 rfl rfl
theorem dksX2_init_4 : cX2_init.data.toList.drop 94 = dktX2_init_4 := dk_seg dksX2_init_3 24 rfl rfl
theorem dX2_init_0 : decode cX2_init 0 = .ok (.aload_n 0, 1) := dk_42 (dk_at dksX2_init_0 0 rfl rfl)
theorem dX2_init_1 : decode cX2_init 1 = .ok (.invokespecial 1, 3) := dk_183 0 1 (dk_at dksX2_init_0 1 rfl rfl)
theorem dX2_init_4 : decode cX2_init 4 = .ok (.aload_n 0, 1) := dk_42 (dk_at dksX2_init_0 4 rfl rfl)
theorem dX2_init_5 : decode cX2_init 5 = .ok (.sipush 1576, 3) := dk_17 6 40 (dk_at dksX2_init_0 5 rfl rfl)
theorem dX2_init_8 : decode cX2_init 8 = .ok (.newarray .int, 2) := dk_188_10 (dk_at dksX2_init_0 8 rfl rfl)
theorem dX2_init_10 : decode cX2_init 10 = .ok (.putfield 9, 3) := dk_181 0 9 (dk_at dksX2_init_0 10 rfl rfl)
theorem dX2_init_13 : decode cX2_init 13 = .ok (.aload_n 0, 1) := dk_42 (dk_at dksX2_init_0 13 rfl rfl)
theorem dX2_init_14 : decode cX2_init 14 = .ok (.sipush 1576, 3) := dk_17 6 40 (dk_at dksX2_init_0 14 rfl rfl)
theorem dX2_init_17 : decode cX2_init 17 = .ok (.newarray .int, 2) := dk_188_10 (dk_at dksX2_init_0 17 rfl rfl)
theorem dX2_init_19 : decode cX2_init 19 = .ok (.putfield 13, 3) := dk_181 0 13 (dk_at dksX2_init_0 19 rfl rfl)
theorem dX2_init_22 : decode cX2_init 22 = .ok (.aload_n 0, 1) := dk_42 (dk_at dksX2_init_0 22 rfl rfl)
theorem dX2_init_23 : decode cX2_init 23 = .ok (.sipush 12608, 3) := dk_17 49 64 (dk_at dksX2_init_1 0 rfl rfl)
theorem dX2_init_26 : decode cX2_init 26 = .ok (.newarray .int, 2) := dk_188_10 (dk_at dksX2_init_1 3 rfl rfl)
theorem dX2_init_28 : decode cX2_init 28 = .ok (.putfield 16, 3) := dk_181 0 16 (dk_at dksX2_init_1 5 rfl rfl)
theorem dX2_init_31 : decode cX2_init 31 = .ok (.aload_n 0, 1) := dk_42 (dk_at dksX2_init_1 8 rfl rfl)
theorem dX2_init_32 : decode cX2_init 32 = .ok (.sipush 3152, 3) := dk_17 12 80 (dk_at dksX2_init_1 9 rfl rfl)
theorem dX2_init_35 : decode cX2_init 35 = .ok (.newarray .int, 2) := dk_188_10 (dk_at dksX2_init_1 12 rfl rfl)
theorem dX2_init_37 : decode cX2_init 37 = .ok (.putfield 19, 3) := dk_181 0 19 (dk_at dksX2_init_1 14 rfl rfl)
theorem dX2_init_40 : decode cX2_init 40 = .ok (.aload_n 0, 1) := dk_42 (dk_at dksX2_init_1 17 rfl rfl)
theorem dX2_init_41 : decode cX2_init 41 = .ok (.iconst 2, 1) := dk_5 (dk_at dksX2_init_1 18 rfl rfl)
theorem dX2_init_42 : decode cX2_init 42 = .ok (.newarray .boolean, 2) := dk_188_4 (dk_at dksX2_init_1 19 rfl rfl)
theorem dX2_init_44 : decode cX2_init 44 = .ok (.putfield 22, 3) := dk_181 0 22 (dk_at dksX2_init_1 21 rfl rfl)
theorem dX2_init_47 : decode cX2_init 47 = .ok (.aload_n 0, 1) := dk_42 (dk_at dksX2_init_2 0 rfl rfl)
theorem dX2_init_48 : decode cX2_init 48 = .ok (.sipush 400, 3) := dk_17 1 144 (dk_at dksX2_init_2 1 rfl rfl)
theorem dX2_init_51 : decode cX2_init 51 = .ok (.newarray .byte, 2) := dk_188_8 (dk_at dksX2_init_2 4 rfl rfl)
theorem dX2_init_53 : decode cX2_init 53 = .ok (.putfield 26, 3) := dk_181 0 26 (dk_at dksX2_init_2 6 rfl rfl)
theorem dX2_init_56 : decode cX2_init 56 = .ok (.aload_n 0, 1) := dk_42 (dk_at dksX2_init_2 9 rfl rfl)
theorem dX2_init_57 : decode cX2_init 57 = .ok (.iconst (-1), 1) := dk_2 (dk_at dksX2_init_2 10 rfl rfl)
theorem dX2_init_58 : decode cX2_init 58 = .ok (.putfield 30, 3) := dk_181 0 30 (dk_at dksX2_init_2 11 rfl rfl)
theorem dX2_init_61 : decode cX2_init 61 = .ok (.aload_n 0, 1) := dk_42 (dk_at dksX2_init_2 14 rfl rfl)
theorem dX2_init_62 : decode cX2_init 62 = .ok (.bipush 12, 2) := dk_16 12 (dk_at dksX2_init_2 15 rfl rfl)
theorem dX2_init_64 : decode cX2_init 64 = .ok (.newarray .int, 2) := dk_188_10 (dk_at dksX2_init_2 17 rfl rfl)
theorem dX2_init_66 : decode cX2_init 66 = .ok (.putfield 34, 3) := dk_181 0 34 (dk_at dksX2_init_2 19 rfl rfl)
theorem dX2_init_69 : decode cX2_init 69 = .ok (.aload_n 0, 1) := dk_42 (dk_at dksX2_init_2 22 rfl rfl)
theorem dX2_init_70 : decode cX2_init 70 = .ok (.bipush 12, 2) := dk_16 12 (dk_at dksX2_init_3 0 rfl rfl)
theorem dX2_init_72 : decode cX2_init 72 = .ok (.newarray .int, 2) := dk_188_10 (dk_at dksX2_init_3 2 rfl rfl)
theorem dX2_init_74 : decode cX2_init 74 = .ok (.putfield 37, 3) := dk_181 0 37 (dk_at dksX2_init_3 4 rfl rfl)
theorem dX2_init_77 : decode cX2_init 77 = .ok (.aload_n 0, 1) := dk_42 (dk_at dksX2_init_3 7 rfl rfl)
theorem dX2_init_78 : decode cX2_init 78 = .ok (.sipush 600, 3) := dk_17 2 88 (dk_at dksX2_init_3 8 rfl rfl)
theorem dX2_init_81 : decode cX2_init 81 = .ok (.newarray .byte, 2) := dk_188_8 (dk_at dksX2_init_3 11 rfl rfl)
theorem dX2_init_83 : decode cX2_init 83 = .ok (.putfield 40, 3) := dk_181 0 40 (dk_at dksX2_init_3 13 rfl rfl)
theorem dX2_init_86 : decode cX2_init 86 = .ok (.aload_n 0, 1) := dk_42 (dk_at dksX2_init_3 16 rfl rfl)
theorem dX2_init_87 : decode cX2_init 87 = .ok (.bipush 9, 2) := dk_16 9 (dk_at dksX2_init_3 17 rfl rfl)
theorem dX2_init_89 : decode cX2_init 89 = .ok (.newarray .int, 2) := dk_188_10 (dk_at dksX2_init_3 19 rfl rfl)
theorem dX2_init_91 : decode cX2_init 91 = .ok (.putfield 43, 3) := dk_181 0 43 (dk_at dksX2_init_3 21 rfl rfl)
theorem dX2_init_94 : decode cX2_init 94 = .ok (.aload_n 0, 1) := dk_42 (dk_at dksX2_init_4 0 rfl rfl)
theorem dX2_init_95 : decode cX2_init 95 = .ok (.bipush 9, 2) := dk_16 9 (dk_at dksX2_init_4 1 rfl rfl)
theorem dX2_init_97 : decode cX2_init 97 = .ok (.newarray .int, 2) := dk_188_10 (dk_at dksX2_init_4 3 rfl rfl)
theorem dX2_init_99 : decode cX2_init 99 = .ok (.putfield 46, 3) := dk_181 0 46 (dk_at dksX2_init_4 5 rfl rfl)
theorem dX2_init_102 : decode cX2_init 102 = .ok (.return_, 1) := dk_177 (dk_at dksX2_init_4 8 rfl rfl)
abbrev cX2_thrown : ByteArray := prog_12_method_2_code
def yX2_thrown : MethodName := ⟨RX2, "thrown", "()I"⟩
theorem dX2_thrown_0 : decode cX2_thrown 0 = .ok (.aload_n 0, 1) := by decide +kernel
theorem dX2_thrown_1 : decode cX2_thrown 1 = .ok (.getfield 49, 3) := by decide +kernel
theorem dX2_thrown_4 : decode cX2_thrown 4 = .ok (.ireturn, 1) := by decide +kernel
abbrev cX2_append : ByteArray := prog_12_method_11_code
def yX2_append : MethodName := ⟨RX2, "append", "(IIIII)I"⟩
def dkwX2_append_2 : List UInt8 := [172]
abbrev dktX2_append_2 : List UInt8 := dkwX2_append_2 ++ []
def dkwX2_append_1 : List UInt8 := [182, 0, 67, 42, 29, 182, 0, 67, 42, 21, 4, 182, 0, 67, 42, 21, 5, 182, 0, 67, 42, 180, 0, 64]
abbrev dktX2_append_1 : List UInt8 := dkwX2_append_1 ++ dktX2_append_2
def dkwX2_append_0 : List UInt8 := [42, 3, 181, 0, 49, 42, 180, 0, 64, 17, 1, 124, 164, 0, 5, 2, 172, 42, 27, 182, 0, 67, 42, 28]
abbrev dktX2_append_0 : List UInt8 := dkwX2_append_0 ++ dktX2_append_1
theorem dksX2_append_0 : cX2_append.data.toList.drop 0 = dktX2_append_0 := by decide +kernel
theorem dksX2_append_1 : cX2_append.data.toList.drop 24 = dktX2_append_1 := dk_seg dksX2_append_0 24 rfl rfl
theorem dksX2_append_2 : cX2_append.data.toList.drop 48 = dktX2_append_2 := dk_seg dksX2_append_1 24 rfl rfl
theorem dX2_append_0 : decode cX2_append 0 = .ok (.aload_n 0, 1) := dk_42 (dk_at dksX2_append_0 0 rfl rfl)
theorem dX2_append_1 : decode cX2_append 1 = .ok (.iconst 0, 1) := dk_3 (dk_at dksX2_append_0 1 rfl rfl)
theorem dX2_append_2 : decode cX2_append 2 = .ok (.putfield 49, 3) := dk_181 0 49 (dk_at dksX2_append_0 2 rfl rfl)
theorem dX2_append_5 : decode cX2_append 5 = .ok (.aload_n 0, 1) := dk_42 (dk_at dksX2_append_0 5 rfl rfl)
theorem dX2_append_6 : decode cX2_append 6 = .ok (.getfield 64, 3) := dk_180 0 64 (dk_at dksX2_append_0 6 rfl rfl)
theorem dX2_append_9 : decode cX2_append 9 = .ok (.sipush 380, 3) := dk_17 1 124 (dk_at dksX2_append_0 9 rfl rfl)
theorem dX2_append_12 : decode cX2_append 12 = .ok (.if_icmp .le 5, 3) := dk_164 0 5 (dk_at dksX2_append_0 12 rfl rfl)
theorem dX2_append_15 : decode cX2_append 15 = .ok (.iconst (-1), 1) := dk_2 (dk_at dksX2_append_0 15 rfl rfl)
theorem dX2_append_16 : decode cX2_append 16 = .ok (.ireturn, 1) := dk_172 (dk_at dksX2_append_0 16 rfl rfl)
theorem dX2_append_17 : decode cX2_append 17 = .ok (.aload_n 0, 1) := dk_42 (dk_at dksX2_append_0 17 rfl rfl)
theorem dX2_append_18 : decode cX2_append 18 = .ok (.iload_n 1, 1) := dk_27 (dk_at dksX2_append_0 18 rfl rfl)
theorem dX2_append_19 : decode cX2_append 19 = .ok (.invokevirtual 67, 3) := dk_182 0 67 (dk_at dksX2_append_0 19 rfl rfl)
theorem dX2_append_22 : decode cX2_append 22 = .ok (.aload_n 0, 1) := dk_42 (dk_at dksX2_append_0 22 rfl rfl)
theorem dX2_append_23 : decode cX2_append 23 = .ok (.iload_n 2, 1) := dk_28 (dk_at dksX2_append_0 23 rfl rfl)
theorem dX2_append_24 : decode cX2_append 24 = .ok (.invokevirtual 67, 3) := dk_182 0 67 (dk_at dksX2_append_1 0 rfl rfl)
theorem dX2_append_27 : decode cX2_append 27 = .ok (.aload_n 0, 1) := dk_42 (dk_at dksX2_append_1 3 rfl rfl)
theorem dX2_append_28 : decode cX2_append 28 = .ok (.iload_n 3, 1) := dk_29 (dk_at dksX2_append_1 4 rfl rfl)
theorem dX2_append_29 : decode cX2_append 29 = .ok (.invokevirtual 67, 3) := dk_182 0 67 (dk_at dksX2_append_1 5 rfl rfl)
theorem dX2_append_32 : decode cX2_append 32 = .ok (.aload_n 0, 1) := dk_42 (dk_at dksX2_append_1 8 rfl rfl)
theorem dX2_append_33 : decode cX2_append 33 = .ok (.iload 4, 2) := dk_21 4 (dk_at dksX2_append_1 9 rfl rfl)
theorem dX2_append_35 : decode cX2_append 35 = .ok (.invokevirtual 67, 3) := dk_182 0 67 (dk_at dksX2_append_1 11 rfl rfl)
theorem dX2_append_38 : decode cX2_append 38 = .ok (.aload_n 0, 1) := dk_42 (dk_at dksX2_append_1 14 rfl rfl)
theorem dX2_append_39 : decode cX2_append 39 = .ok (.iload 5, 2) := dk_21 5 (dk_at dksX2_append_1 15 rfl rfl)
theorem dX2_append_41 : decode cX2_append 41 = .ok (.invokevirtual 67, 3) := dk_182 0 67 (dk_at dksX2_append_1 17 rfl rfl)
theorem dX2_append_44 : decode cX2_append 44 = .ok (.aload_n 0, 1) := dk_42 (dk_at dksX2_append_1 20 rfl rfl)
theorem dX2_append_45 : decode cX2_append 45 = .ok (.getfield 64, 3) := dk_180 0 64 (dk_at dksX2_append_1 21 rfl rfl)
theorem dX2_append_48 : decode cX2_append 48 = .ok (.ireturn, 1) := dk_172 (dk_at dksX2_append_2 0 rfl rfl)
abbrev cX2_four : ByteArray := prog_12_method_12_code
def yX2_four : MethodName := ⟨RX2, "four", "(I)V"⟩
def dkwX2_four_1 : List UInt8 := [180, 0, 64, 4, 96, 181, 0, 64, 132, 2, 255, 167, 255, 223, 177]
abbrev dktX2_four_1 : List UInt8 := dkwX2_four_1 ++ []
def dkwX2_four_0 : List UInt8 := [6, 61, 28, 155, 0, 35, 42, 180, 0, 26, 42, 180, 0, 64, 27, 16, 8, 28, 104, 122, 145, 84, 42, 89]
abbrev dktX2_four_0 : List UInt8 := dkwX2_four_0 ++ dktX2_four_1
theorem dksX2_four_0 : cX2_four.data.toList.drop 0 = dktX2_four_0 := by decide +kernel
theorem dksX2_four_1 : cX2_four.data.toList.drop 24 = dktX2_four_1 := dk_seg dksX2_four_0 24 rfl rfl
theorem dX2_four_0 : decode cX2_four 0 = .ok (.iconst 3, 1) := dk_6 (dk_at dksX2_four_0 0 rfl rfl)
theorem dX2_four_1 : decode cX2_four 1 = .ok (.istore_n 2, 1) := dk_61 (dk_at dksX2_four_0 1 rfl rfl)
theorem dX2_four_2 : decode cX2_four 2 = .ok (.iload_n 2, 1) := dk_28 (dk_at dksX2_four_0 2 rfl rfl)
theorem dX2_four_3 : decode cX2_four 3 = .ok (.ifCond .lt 35, 3) := dk_155 0 35 (dk_at dksX2_four_0 3 rfl rfl)
theorem dX2_four_6 : decode cX2_four 6 = .ok (.aload_n 0, 1) := dk_42 (dk_at dksX2_four_0 6 rfl rfl)
theorem dX2_four_7 : decode cX2_four 7 = .ok (.getfield 26, 3) := dk_180 0 26 (dk_at dksX2_four_0 7 rfl rfl)
theorem dX2_four_10 : decode cX2_four 10 = .ok (.aload_n 0, 1) := dk_42 (dk_at dksX2_four_0 10 rfl rfl)
theorem dX2_four_11 : decode cX2_four 11 = .ok (.getfield 64, 3) := dk_180 0 64 (dk_at dksX2_four_0 11 rfl rfl)
theorem dX2_four_14 : decode cX2_four 14 = .ok (.iload_n 1, 1) := dk_27 (dk_at dksX2_four_0 14 rfl rfl)
theorem dX2_four_15 : decode cX2_four 15 = .ok (.bipush 8, 2) := dk_16 8 (dk_at dksX2_four_0 15 rfl rfl)
theorem dX2_four_17 : decode cX2_four 17 = .ok (.iload_n 2, 1) := dk_28 (dk_at dksX2_four_0 17 rfl rfl)
theorem dX2_four_18 : decode cX2_four 18 = .ok (.imul, 1) := dk_104 (dk_at dksX2_four_0 18 rfl rfl)
theorem dX2_four_19 : decode cX2_four 19 = .ok (.ishr, 1) := dk_122 (dk_at dksX2_four_0 19 rfl rfl)
theorem dX2_four_20 : decode cX2_four 20 = .ok (.i2b, 1) := dk_145 (dk_at dksX2_four_0 20 rfl rfl)
theorem dX2_four_21 : decode cX2_four 21 = .ok (.bastore, 1) := dk_84 (dk_at dksX2_four_0 21 rfl rfl)
theorem dX2_four_22 : decode cX2_four 22 = .ok (.aload_n 0, 1) := dk_42 (dk_at dksX2_four_0 22 rfl rfl)
theorem dX2_four_23 : decode cX2_four 23 = .ok (.dup, 1) := dk_89 (dk_at dksX2_four_0 23 rfl rfl)
theorem dX2_four_24 : decode cX2_four 24 = .ok (.getfield 64, 3) := dk_180 0 64 (dk_at dksX2_four_1 0 rfl rfl)
theorem dX2_four_27 : decode cX2_four 27 = .ok (.iconst 1, 1) := dk_4 (dk_at dksX2_four_1 3 rfl rfl)
theorem dX2_four_28 : decode cX2_four 28 = .ok (.iadd, 1) := dk_96 (dk_at dksX2_four_1 4 rfl rfl)
theorem dX2_four_29 : decode cX2_four 29 = .ok (.putfield 64, 3) := dk_181 0 64 (dk_at dksX2_four_1 5 rfl rfl)
theorem dX2_four_32 : decode cX2_four 32 = .ok (.iinc 2 (-1), 3) := dk_132 2 255 (dk_at dksX2_four_1 8 rfl rfl)
theorem dX2_four_35 : decode cX2_four 35 = .ok (.goto (-33), 3) := dk_167 255 223 (dk_at dksX2_four_1 11 rfl rfl)
theorem dX2_four_38 : decode cX2_four 38 = .ok (.return_, 1) := dk_177 (dk_at dksX2_four_1 14 rfl rfl)
abbrev cX2_parseError : ByteArray := prog_12_method_13_code
def yX2_parseError : MethodName := ⟨RX2, "parseError", "()I"⟩
def dkwX2_parseError_0 : List UInt8 := [42, 3, 181, 0, 49, 42, 180, 0, 71, 172]
abbrev dktX2_parseError_0 : List UInt8 := dkwX2_parseError_0 ++ []
theorem dksX2_parseError_0 : cX2_parseError.data.toList.drop 0 = dktX2_parseError_0 := by decide +kernel
theorem dX2_parseError_0 : decode cX2_parseError 0 = .ok (.aload_n 0, 1) := dk_42 (dk_at dksX2_parseError_0 0 rfl rfl)
theorem dX2_parseError_1 : decode cX2_parseError 1 = .ok (.iconst 0, 1) := dk_3 (dk_at dksX2_parseError_0 1 rfl rfl)
theorem dX2_parseError_2 : decode cX2_parseError 2 = .ok (.putfield 49, 3) := dk_181 0 49 (dk_at dksX2_parseError_0 2 rfl rfl)
theorem dX2_parseError_5 : decode cX2_parseError 5 = .ok (.aload_n 0, 1) := dk_42 (dk_at dksX2_parseError_0 5 rfl rfl)
theorem dX2_parseError_6 : decode cX2_parseError 6 = .ok (.getfield 71, 3) := dk_180 0 71 (dk_at dksX2_parseError_0 6 rfl rfl)
theorem dX2_parseError_9 : decode cX2_parseError 9 = .ok (.ireturn, 1) := dk_172 (dk_at dksX2_parseError_0 9 rfl rfl)
abbrev cX2_errorPosition : ByteArray := prog_12_method_14_code
def yX2_errorPosition : MethodName := ⟨RX2, "errorPosition", "()I"⟩
def dkwX2_errorPosition_0 : List UInt8 := [42, 3, 181, 0, 49, 42, 180, 0, 30, 172]
abbrev dktX2_errorPosition_0 : List UInt8 := dkwX2_errorPosition_0 ++ []
theorem dksX2_errorPosition_0 : cX2_errorPosition.data.toList.drop 0 = dktX2_errorPosition_0 := by decide +kernel
theorem dX2_errorPosition_0 : decode cX2_errorPosition 0 = .ok (.aload_n 0, 1) := dk_42 (dk_at dksX2_errorPosition_0 0 rfl rfl)
theorem dX2_errorPosition_1 : decode cX2_errorPosition 1 = .ok (.iconst 0, 1) := dk_3 (dk_at dksX2_errorPosition_0 1 rfl rfl)
theorem dX2_errorPosition_2 : decode cX2_errorPosition 2 = .ok (.putfield 49, 3) := dk_181 0 49 (dk_at dksX2_errorPosition_0 2 rfl rfl)
theorem dX2_errorPosition_5 : decode cX2_errorPosition 5 = .ok (.aload_n 0, 1) := dk_42 (dk_at dksX2_errorPosition_0 5 rfl rfl)
theorem dX2_errorPosition_6 : decode cX2_errorPosition 6 = .ok (.getfield 30, 3) := dk_180 0 30 (dk_at dksX2_errorPosition_0 6 rfl rfl)
theorem dX2_errorPosition_9 : decode cX2_errorPosition 9 = .ok (.ireturn, 1) := dk_172 (dk_at dksX2_errorPosition_0 9 rfl rfl)
abbrev cX2_buffered : ByteArray := prog_12_method_15_code
def yX2_buffered : MethodName := ⟨RX2, "buffered", "()I"⟩
def dkwX2_buffered_0 : List UInt8 := [42, 3, 181, 0, 49, 42, 180, 0, 64, 172]
abbrev dktX2_buffered_0 : List UInt8 := dkwX2_buffered_0 ++ []
theorem dksX2_buffered_0 : cX2_buffered.data.toList.drop 0 = dktX2_buffered_0 := by decide +kernel
theorem dX2_buffered_0 : decode cX2_buffered 0 = .ok (.aload_n 0, 1) := dk_42 (dk_at dksX2_buffered_0 0 rfl rfl)
theorem dX2_buffered_1 : decode cX2_buffered 1 = .ok (.iconst 0, 1) := dk_3 (dk_at dksX2_buffered_0 1 rfl rfl)
theorem dX2_buffered_2 : decode cX2_buffered 2 = .ok (.putfield 49, 3) := dk_181 0 49 (dk_at dksX2_buffered_0 2 rfl rfl)
theorem dX2_buffered_5 : decode cX2_buffered 5 = .ok (.aload_n 0, 1) := dk_42 (dk_at dksX2_buffered_0 5 rfl rfl)
theorem dX2_buffered_6 : decode cX2_buffered 6 = .ok (.getfield 64, 3) := dk_180 0 64 (dk_at dksX2_buffered_0 6 rfl rfl)
theorem dX2_buffered_9 : decode cX2_buffered 9 = .ok (.ireturn, 1) := dk_172 (dk_at dksX2_buffered_0 9 rfl rfl)
abbrev cX2_load : ByteArray := prog_12_method_36_code
def yX2_load : MethodName := ⟨RX2, "load", "(I)I"⟩
def dkwX2_load_5 : List UInt8 := [84, 42, 180, 0, 9, 6, 46, 172]
abbrev dktX2_load_5 : List UInt8 := dkwX2_load_5 ++ []
def dkwX2_load_4 : List UInt8 := [172, 42, 4, 181, 0, 56, 42, 3, 181, 0, 229, 42, 180, 0, 22, 3, 3, 84, 42, 180, 0, 22, 4, 3]
abbrev dktX2_load_4 : List UInt8 := dkwX2_load_4 ++ dktX2_load_5
def dkwX2_load_3 : List UInt8 := [167, 255, 239, 42, 182, 0, 223, 42, 180, 0, 71, 158, 0, 14, 42, 5, 181, 0, 49, 42, 3, 182, 0, 226]
abbrev dktX2_load_3 : List UInt8 := dkwX2_load_3 ++ dktX2_load_4
def dkwX2_load_2 : List UInt8 := [182, 0, 220, 3, 61, 28, 17, 6, 40, 162, 0, 16, 42, 180, 0, 9, 28, 3, 79, 132, 2, 1]
abbrev dktX2_load_2 : List UInt8 := dkwX2_load_2 ++ dktX2_load_3
def dkwX2_load_1 : List UInt8 := [181, 0, 74, 42, 3, 181, 0, 81, 42, 3, 181, 0, 64, 42, 3, 181, 0, 71, 42, 2, 181, 0, 30, 42]
abbrev dktX2_load_1 : List UInt8 := dkwX2_load_1 ++ dktX2_load_2
def dkwX2_load_0 : List UInt8 := [42, 27, 3, 42, 180, 0, 64, 184, 0, 77, 4, 4, 182, 0, 52, 154, 0, 5, 3, 172, 42, 27]
abbrev dktX2_load_0 : List UInt8 := dkwX2_load_0 ++ dktX2_load_1
theorem dksX2_load_0 : cX2_load.data.toList.drop 0 = dktX2_load_0 := by decide +kernel
theorem dksX2_load_1 : cX2_load.data.toList.drop 22 = dktX2_load_1 := dk_seg dksX2_load_0 22 rfl rfl
theorem dksX2_load_2 : cX2_load.data.toList.drop 46 = dktX2_load_2 := dk_seg dksX2_load_1 24 rfl rfl
theorem dksX2_load_3 : cX2_load.data.toList.drop 68 = dktX2_load_3 := dk_seg dksX2_load_2 22 rfl rfl
theorem dksX2_load_4 : cX2_load.data.toList.drop 92 = dktX2_load_4 := dk_seg dksX2_load_3 24 rfl rfl
theorem dksX2_load_5 : cX2_load.data.toList.drop 116 = dktX2_load_5 := dk_seg dksX2_load_4 24 rfl rfl
theorem dX2_load_0 : decode cX2_load 0 = .ok (.aload_n 0, 1) := dk_42 (dk_at dksX2_load_0 0 rfl rfl)
theorem dX2_load_1 : decode cX2_load 1 = .ok (.iload_n 1, 1) := dk_27 (dk_at dksX2_load_0 1 rfl rfl)
theorem dX2_load_2 : decode cX2_load 2 = .ok (.iconst 0, 1) := dk_3 (dk_at dksX2_load_0 2 rfl rfl)
theorem dX2_load_3 : decode cX2_load 3 = .ok (.aload_n 0, 1) := dk_42 (dk_at dksX2_load_0 3 rfl rfl)
theorem dX2_load_4 : decode cX2_load 4 = .ok (.getfield 64, 3) := dk_180 0 64 (dk_at dksX2_load_0 4 rfl rfl)
theorem dX2_load_7 : decode cX2_load 7 = .ok (.invokestatic 77, 3) := dk_184 0 77 (dk_at dksX2_load_0 7 rfl rfl)
theorem dX2_load_10 : decode cX2_load 10 = .ok (.iconst 1, 1) := dk_4 (dk_at dksX2_load_0 10 rfl rfl)
theorem dX2_load_11 : decode cX2_load 11 = .ok (.iconst 1, 1) := dk_4 (dk_at dksX2_load_0 11 rfl rfl)
theorem dX2_load_12 : decode cX2_load 12 = .ok (.invokevirtual 52, 3) := dk_182 0 52 (dk_at dksX2_load_0 12 rfl rfl)
theorem dX2_load_15 : decode cX2_load 15 = .ok (.ifCond .ne 5, 3) := dk_154 0 5 (dk_at dksX2_load_0 15 rfl rfl)
theorem dX2_load_18 : decode cX2_load 18 = .ok (.iconst 0, 1) := dk_3 (dk_at dksX2_load_0 18 rfl rfl)
theorem dX2_load_19 : decode cX2_load 19 = .ok (.ireturn, 1) := dk_172 (dk_at dksX2_load_0 19 rfl rfl)
theorem dX2_load_20 : decode cX2_load 20 = .ok (.aload_n 0, 1) := dk_42 (dk_at dksX2_load_0 20 rfl rfl)
theorem dX2_load_21 : decode cX2_load 21 = .ok (.iload_n 1, 1) := dk_27 (dk_at dksX2_load_0 21 rfl rfl)
theorem dX2_load_22 : decode cX2_load 22 = .ok (.putfield 74, 3) := dk_181 0 74 (dk_at dksX2_load_1 0 rfl rfl)
theorem dX2_load_25 : decode cX2_load 25 = .ok (.aload_n 0, 1) := dk_42 (dk_at dksX2_load_1 3 rfl rfl)
theorem dX2_load_26 : decode cX2_load 26 = .ok (.iconst 0, 1) := dk_3 (dk_at dksX2_load_1 4 rfl rfl)
theorem dX2_load_27 : decode cX2_load 27 = .ok (.putfield 81, 3) := dk_181 0 81 (dk_at dksX2_load_1 5 rfl rfl)
theorem dX2_load_30 : decode cX2_load 30 = .ok (.aload_n 0, 1) := dk_42 (dk_at dksX2_load_1 8 rfl rfl)
theorem dX2_load_31 : decode cX2_load 31 = .ok (.iconst 0, 1) := dk_3 (dk_at dksX2_load_1 9 rfl rfl)
theorem dX2_load_32 : decode cX2_load 32 = .ok (.putfield 64, 3) := dk_181 0 64 (dk_at dksX2_load_1 10 rfl rfl)
theorem dX2_load_35 : decode cX2_load 35 = .ok (.aload_n 0, 1) := dk_42 (dk_at dksX2_load_1 13 rfl rfl)
theorem dX2_load_36 : decode cX2_load 36 = .ok (.iconst 0, 1) := dk_3 (dk_at dksX2_load_1 14 rfl rfl)
theorem dX2_load_37 : decode cX2_load 37 = .ok (.putfield 71, 3) := dk_181 0 71 (dk_at dksX2_load_1 15 rfl rfl)
theorem dX2_load_40 : decode cX2_load 40 = .ok (.aload_n 0, 1) := dk_42 (dk_at dksX2_load_1 18 rfl rfl)
theorem dX2_load_41 : decode cX2_load 41 = .ok (.iconst (-1), 1) := dk_2 (dk_at dksX2_load_1 19 rfl rfl)
theorem dX2_load_42 : decode cX2_load 42 = .ok (.putfield 30, 3) := dk_181 0 30 (dk_at dksX2_load_1 20 rfl rfl)
theorem dX2_load_45 : decode cX2_load 45 = .ok (.aload_n 0, 1) := dk_42 (dk_at dksX2_load_1 23 rfl rfl)
theorem dX2_load_46 : decode cX2_load 46 = .ok (.invokevirtual 220, 3) := dk_182 0 220 (dk_at dksX2_load_2 0 rfl rfl)
theorem dX2_load_49 : decode cX2_load 49 = .ok (.iconst 0, 1) := dk_3 (dk_at dksX2_load_2 3 rfl rfl)
theorem dX2_load_50 : decode cX2_load 50 = .ok (.istore_n 2, 1) := dk_61 (dk_at dksX2_load_2 4 rfl rfl)
theorem dX2_load_51 : decode cX2_load 51 = .ok (.iload_n 2, 1) := dk_28 (dk_at dksX2_load_2 5 rfl rfl)
theorem dX2_load_52 : decode cX2_load 52 = .ok (.sipush 1576, 3) := dk_17 6 40 (dk_at dksX2_load_2 6 rfl rfl)
theorem dX2_load_55 : decode cX2_load 55 = .ok (.if_icmp .ge 16, 3) := dk_162 0 16 (dk_at dksX2_load_2 9 rfl rfl)
theorem dX2_load_58 : decode cX2_load 58 = .ok (.aload_n 0, 1) := dk_42 (dk_at dksX2_load_2 12 rfl rfl)
theorem dX2_load_59 : decode cX2_load 59 = .ok (.getfield 9, 3) := dk_180 0 9 (dk_at dksX2_load_2 13 rfl rfl)
theorem dX2_load_62 : decode cX2_load 62 = .ok (.iload_n 2, 1) := dk_28 (dk_at dksX2_load_2 16 rfl rfl)
theorem dX2_load_63 : decode cX2_load 63 = .ok (.iconst 0, 1) := dk_3 (dk_at dksX2_load_2 17 rfl rfl)
theorem dX2_load_64 : decode cX2_load 64 = .ok (.iastore, 1) := dk_79 (dk_at dksX2_load_2 18 rfl rfl)
theorem dX2_load_65 : decode cX2_load 65 = .ok (.iinc 2 1, 3) := dk_132 2 1 (dk_at dksX2_load_2 19 rfl rfl)
theorem dX2_load_68 : decode cX2_load 68 = .ok (.goto (-17), 3) := dk_167 255 239 (dk_at dksX2_load_3 0 rfl rfl)
theorem dX2_load_71 : decode cX2_load 71 = .ok (.aload_n 0, 1) := dk_42 (dk_at dksX2_load_3 3 rfl rfl)
theorem dX2_load_72 : decode cX2_load 72 = .ok (.invokevirtual 223, 3) := dk_182 0 223 (dk_at dksX2_load_3 4 rfl rfl)
theorem dX2_load_75 : decode cX2_load 75 = .ok (.aload_n 0, 1) := dk_42 (dk_at dksX2_load_3 7 rfl rfl)
theorem dX2_load_76 : decode cX2_load 76 = .ok (.getfield 71, 3) := dk_180 0 71 (dk_at dksX2_load_3 8 rfl rfl)
theorem dX2_load_79 : decode cX2_load 79 = .ok (.ifCond .le 14, 3) := dk_158 0 14 (dk_at dksX2_load_3 11 rfl rfl)
theorem dX2_load_82 : decode cX2_load 82 = .ok (.aload_n 0, 1) := dk_42 (dk_at dksX2_load_3 14 rfl rfl)
theorem dX2_load_83 : decode cX2_load 83 = .ok (.iconst 2, 1) := dk_5 (dk_at dksX2_load_3 15 rfl rfl)
theorem dX2_load_84 : decode cX2_load 84 = .ok (.putfield 49, 3) := dk_181 0 49 (dk_at dksX2_load_3 16 rfl rfl)
theorem dX2_load_87 : decode cX2_load 87 = .ok (.aload_n 0, 1) := dk_42 (dk_at dksX2_load_3 19 rfl rfl)
theorem dX2_load_88 : decode cX2_load 88 = .ok (.iconst 0, 1) := dk_3 (dk_at dksX2_load_3 20 rfl rfl)
theorem dX2_load_89 : decode cX2_load 89 = .ok (.invokevirtual 226, 3) := dk_182 0 226 (dk_at dksX2_load_3 21 rfl rfl)
theorem dX2_load_92 : decode cX2_load 92 = .ok (.ireturn, 1) := dk_172 (dk_at dksX2_load_4 0 rfl rfl)
theorem dX2_load_93 : decode cX2_load 93 = .ok (.aload_n 0, 1) := dk_42 (dk_at dksX2_load_4 1 rfl rfl)
theorem dX2_load_94 : decode cX2_load 94 = .ok (.iconst 1, 1) := dk_4 (dk_at dksX2_load_4 2 rfl rfl)
theorem dX2_load_95 : decode cX2_load 95 = .ok (.putfield 56, 3) := dk_181 0 56 (dk_at dksX2_load_4 3 rfl rfl)
theorem dX2_load_98 : decode cX2_load 98 = .ok (.aload_n 0, 1) := dk_42 (dk_at dksX2_load_4 6 rfl rfl)
theorem dX2_load_99 : decode cX2_load 99 = .ok (.iconst 0, 1) := dk_3 (dk_at dksX2_load_4 7 rfl rfl)
theorem dX2_load_100 : decode cX2_load 100 = .ok (.putfield 229, 3) := dk_181 0 229 (dk_at dksX2_load_4 8 rfl rfl)
theorem dX2_load_103 : decode cX2_load 103 = .ok (.aload_n 0, 1) := dk_42 (dk_at dksX2_load_4 11 rfl rfl)
theorem dX2_load_104 : decode cX2_load 104 = .ok (.getfield 22, 3) := dk_180 0 22 (dk_at dksX2_load_4 12 rfl rfl)
theorem dX2_load_107 : decode cX2_load 107 = .ok (.iconst 0, 1) := dk_3 (dk_at dksX2_load_4 15 rfl rfl)
theorem dX2_load_108 : decode cX2_load 108 = .ok (.iconst 0, 1) := dk_3 (dk_at dksX2_load_4 16 rfl rfl)
theorem dX2_load_109 : decode cX2_load 109 = .ok (.bastore, 1) := dk_84 (dk_at dksX2_load_4 17 rfl rfl)
theorem dX2_load_110 : decode cX2_load 110 = .ok (.aload_n 0, 1) := dk_42 (dk_at dksX2_load_4 18 rfl rfl)
theorem dX2_load_111 : decode cX2_load 111 = .ok (.getfield 22, 3) := dk_180 0 22 (dk_at dksX2_load_4 19 rfl rfl)
theorem dX2_load_114 : decode cX2_load 114 = .ok (.iconst 1, 1) := dk_4 (dk_at dksX2_load_4 22 rfl rfl)
theorem dX2_load_115 : decode cX2_load 115 = .ok (.iconst 0, 1) := dk_3 (dk_at dksX2_load_4 23 rfl rfl)
theorem dX2_load_116 : decode cX2_load 116 = .ok (.bastore, 1) := dk_84 (dk_at dksX2_load_5 0 rfl rfl)
theorem dX2_load_117 : decode cX2_load 117 = .ok (.aload_n 0, 1) := dk_42 (dk_at dksX2_load_5 1 rfl rfl)
theorem dX2_load_118 : decode cX2_load 118 = .ok (.getfield 9, 3) := dk_180 0 9 (dk_at dksX2_load_5 2 rfl rfl)
theorem dX2_load_121 : decode cX2_load 121 = .ok (.iconst 3, 1) := dk_6 (dk_at dksX2_load_5 5 rfl rfl)
theorem dX2_load_122 : decode cX2_load 122 = .ok (.iaload, 1) := dk_46 (dk_at dksX2_load_5 6 rfl rfl)
theorem dX2_load_123 : decode cX2_load 123 = .ok (.ireturn, 1) := dk_172 (dk_at dksX2_load_5 7 rfl rfl)
abbrev cX2_in : ByteArray := prog_12_method_3_code
def yX2_in : MethodName := ⟨RX2, "in", "(III)Z"⟩
def dkwX2_in_0 : List UInt8 := [27, 26, 163, 0, 12, 26, 28, 163, 0, 7, 4, 167, 0, 4, 3, 172]
abbrev dktX2_in_0 : List UInt8 := dkwX2_in_0 ++ []
theorem dksX2_in_0 : cX2_in.data.toList.drop 0 = dktX2_in_0 := by decide +kernel
theorem dX2_in_0 : decode cX2_in 0 = .ok (.iload_n 1, 1) := dk_27 (dk_at dksX2_in_0 0 rfl rfl)
theorem dX2_in_1 : decode cX2_in 1 = .ok (.iload_n 0, 1) := dk_26 (dk_at dksX2_in_0 1 rfl rfl)
theorem dX2_in_2 : decode cX2_in 2 = .ok (.if_icmp .gt 12, 3) := dk_163 0 12 (dk_at dksX2_in_0 2 rfl rfl)
theorem dX2_in_5 : decode cX2_in 5 = .ok (.iload_n 0, 1) := dk_26 (dk_at dksX2_in_0 5 rfl rfl)
theorem dX2_in_6 : decode cX2_in 6 = .ok (.iload_n 2, 1) := dk_28 (dk_at dksX2_in_0 6 rfl rfl)
theorem dX2_in_7 : decode cX2_in 7 = .ok (.if_icmp .gt 7, 3) := dk_163 0 7 (dk_at dksX2_in_0 7 rfl rfl)
theorem dX2_in_10 : decode cX2_in 10 = .ok (.iconst 1, 1) := dk_4 (dk_at dksX2_in_0 10 rfl rfl)
theorem dX2_in_11 : decode cX2_in 11 = .ok (.goto 4, 3) := dk_167 0 4 (dk_at dksX2_in_0 11 rfl rfl)
theorem dX2_in_14 : decode cX2_in 14 = .ok (.iconst 0, 1) := dk_3 (dk_at dksX2_in_0 14 rfl rfl)
theorem dX2_in_15 : decode cX2_in 15 = .ok (.ireturn, 1) := dk_172 (dk_at dksX2_in_0 15 rfl rfl)
abbrev cX2_may : ByteArray := prog_12_method_5_code
def yX2_may : MethodName := ⟨RX2, "may", "(ZZZ)Z"⟩
def dkwX2_may_1 : List UInt8 := [167, 0, 4, 6, 181, 0, 49, 42, 180, 0, 49, 154, 0, 7, 4, 167, 0, 4, 3, 172]
abbrev dktX2_may_1 : List UInt8 := dkwX2_may_1 ++ []
def dkwX2_may_0 : List UInt8 := [42, 27, 154, 0, 7, 4, 167, 0, 20, 28, 154, 0, 7, 5, 167, 0, 12, 29, 153, 0, 7, 3]
abbrev dktX2_may_0 : List UInt8 := dkwX2_may_0 ++ dktX2_may_1
theorem dksX2_may_0 : cX2_may.data.toList.drop 0 = dktX2_may_0 := by decide +kernel
theorem dksX2_may_1 : cX2_may.data.toList.drop 22 = dktX2_may_1 := dk_seg dksX2_may_0 22 rfl rfl
theorem dX2_may_0 : decode cX2_may 0 = .ok (.aload_n 0, 1) := dk_42 (dk_at dksX2_may_0 0 rfl rfl)
theorem dX2_may_1 : decode cX2_may 1 = .ok (.iload_n 1, 1) := dk_27 (dk_at dksX2_may_0 1 rfl rfl)
theorem dX2_may_2 : decode cX2_may 2 = .ok (.ifCond .ne 7, 3) := dk_154 0 7 (dk_at dksX2_may_0 2 rfl rfl)
theorem dX2_may_5 : decode cX2_may 5 = .ok (.iconst 1, 1) := dk_4 (dk_at dksX2_may_0 5 rfl rfl)
theorem dX2_may_6 : decode cX2_may 6 = .ok (.goto 20, 3) := dk_167 0 20 (dk_at dksX2_may_0 6 rfl rfl)
theorem dX2_may_9 : decode cX2_may 9 = .ok (.iload_n 2, 1) := dk_28 (dk_at dksX2_may_0 9 rfl rfl)
theorem dX2_may_10 : decode cX2_may 10 = .ok (.ifCond .ne 7, 3) := dk_154 0 7 (dk_at dksX2_may_0 10 rfl rfl)
theorem dX2_may_13 : decode cX2_may 13 = .ok (.iconst 2, 1) := dk_5 (dk_at dksX2_may_0 13 rfl rfl)
theorem dX2_may_14 : decode cX2_may 14 = .ok (.goto 12, 3) := dk_167 0 12 (dk_at dksX2_may_0 14 rfl rfl)
theorem dX2_may_17 : decode cX2_may 17 = .ok (.iload_n 3, 1) := dk_29 (dk_at dksX2_may_0 17 rfl rfl)
theorem dX2_may_18 : decode cX2_may 18 = .ok (.ifCond .eq 7, 3) := dk_153 0 7 (dk_at dksX2_may_0 18 rfl rfl)
theorem dX2_may_21 : decode cX2_may 21 = .ok (.iconst 0, 1) := dk_3 (dk_at dksX2_may_0 21 rfl rfl)
theorem dX2_may_22 : decode cX2_may 22 = .ok (.goto 4, 3) := dk_167 0 4 (dk_at dksX2_may_1 0 rfl rfl)
theorem dX2_may_25 : decode cX2_may 25 = .ok (.iconst 3, 1) := dk_6 (dk_at dksX2_may_1 3 rfl rfl)
theorem dX2_may_26 : decode cX2_may 26 = .ok (.putfield 49, 3) := dk_181 0 49 (dk_at dksX2_may_1 4 rfl rfl)
theorem dX2_may_29 : decode cX2_may 29 = .ok (.aload_n 0, 1) := dk_42 (dk_at dksX2_may_1 7 rfl rfl)
theorem dX2_may_30 : decode cX2_may 30 = .ok (.getfield 49, 3) := dk_180 0 49 (dk_at dksX2_may_1 8 rfl rfl)
theorem dX2_may_33 : decode cX2_may 33 = .ok (.ifCond .ne 7, 3) := dk_154 0 7 (dk_at dksX2_may_1 11 rfl rfl)
theorem dX2_may_36 : decode cX2_may 36 = .ok (.iconst 1, 1) := dk_4 (dk_at dksX2_may_1 14 rfl rfl)
theorem dX2_may_37 : decode cX2_may 37 = .ok (.goto 4, 3) := dk_167 0 4 (dk_at dksX2_may_1 15 rfl rfl)
theorem dX2_may_40 : decode cX2_may 40 = .ok (.iconst 0, 1) := dk_3 (dk_at dksX2_may_1 18 rfl rfl)
theorem dX2_may_41 : decode cX2_may 41 = .ok (.ireturn, 1) := dk_172 (dk_at dksX2_may_1 19 rfl rfl)
abbrev cX2_thinks : ByteArray := prog_12_method_9_code
def yX2_thinks : MethodName := ⟨RX2, "thinks", "()V"⟩
def dkwX2_thinks_0 : List UInt8 := [42, 180, 0, 9, 3, 42, 180, 0, 13, 3, 184, 0, 60, 177]
abbrev dktX2_thinks_0 : List UInt8 := dkwX2_thinks_0 ++ []
theorem dksX2_thinks_0 : cX2_thinks.data.toList.drop 0 = dktX2_thinks_0 := by decide +kernel
theorem dX2_thinks_0 : decode cX2_thinks 0 = .ok (.aload_n 0, 1) := dk_42 (dk_at dksX2_thinks_0 0 rfl rfl)
theorem dX2_thinks_1 : decode cX2_thinks 1 = .ok (.getfield 9, 3) := dk_180 0 9 (dk_at dksX2_thinks_0 1 rfl rfl)
theorem dX2_thinks_4 : decode cX2_thinks 4 = .ok (.iconst 0, 1) := dk_3 (dk_at dksX2_thinks_0 4 rfl rfl)
theorem dX2_thinks_5 : decode cX2_thinks 5 = .ok (.aload_n 0, 1) := dk_42 (dk_at dksX2_thinks_0 5 rfl rfl)
theorem dX2_thinks_6 : decode cX2_thinks 6 = .ok (.getfield 13, 3) := dk_180 0 13 (dk_at dksX2_thinks_0 6 rfl rfl)
theorem dX2_thinks_9 : decode cX2_thinks 9 = .ok (.iconst 0, 1) := dk_3 (dk_at dksX2_thinks_0 9 rfl rfl)
theorem dX2_thinks_10 : decode cX2_thinks 10 = .ok (.invokestatic 60, 3) := dk_184 0 60 (dk_at dksX2_thinks_0 10 rfl rfl)
theorem dX2_thinks_13 : decode cX2_thinks 13 = .ok (.return_, 1) := dk_177 (dk_at dksX2_thinks_0 13 rfl rfl)
abbrev cX2_lays : ByteArray := prog_12_method_8_code
def yX2_lays : MethodName := ⟨RX2, "lays", "([II[II)V"⟩
def dkwX2_lays_1 : List UInt8 := [132, 4, 1, 167, 255, 233, 177]
abbrev dktX2_lays_1 : List UInt8 := dkwX2_lays_1 ++ []
def dkwX2_lays_0 : List UInt8 := [3, 54, 4, 21, 4, 17, 6, 40, 162, 0, 21, 44, 29, 21, 4, 96, 42, 27, 21, 4, 96, 46, 79]
abbrev dktX2_lays_0 : List UInt8 := dkwX2_lays_0 ++ dktX2_lays_1
theorem dksX2_lays_0 : cX2_lays.data.toList.drop 0 = dktX2_lays_0 := by decide +kernel
theorem dksX2_lays_1 : cX2_lays.data.toList.drop 23 = dktX2_lays_1 := dk_seg dksX2_lays_0 23 rfl rfl
theorem dX2_lays_0 : decode cX2_lays 0 = .ok (.iconst 0, 1) := dk_3 (dk_at dksX2_lays_0 0 rfl rfl)
theorem dX2_lays_1 : decode cX2_lays 1 = .ok (.istore 4, 2) := dk_54 4 (dk_at dksX2_lays_0 1 rfl rfl)
theorem dX2_lays_3 : decode cX2_lays 3 = .ok (.iload 4, 2) := dk_21 4 (dk_at dksX2_lays_0 3 rfl rfl)
theorem dX2_lays_5 : decode cX2_lays 5 = .ok (.sipush 1576, 3) := dk_17 6 40 (dk_at dksX2_lays_0 5 rfl rfl)
theorem dX2_lays_8 : decode cX2_lays 8 = .ok (.if_icmp .ge 21, 3) := dk_162 0 21 (dk_at dksX2_lays_0 8 rfl rfl)
theorem dX2_lays_11 : decode cX2_lays 11 = .ok (.aload_n 2, 1) := dk_44 (dk_at dksX2_lays_0 11 rfl rfl)
theorem dX2_lays_12 : decode cX2_lays 12 = .ok (.iload_n 3, 1) := dk_29 (dk_at dksX2_lays_0 12 rfl rfl)
theorem dX2_lays_13 : decode cX2_lays 13 = .ok (.iload 4, 2) := dk_21 4 (dk_at dksX2_lays_0 13 rfl rfl)
theorem dX2_lays_15 : decode cX2_lays 15 = .ok (.iadd, 1) := dk_96 (dk_at dksX2_lays_0 15 rfl rfl)
theorem dX2_lays_16 : decode cX2_lays 16 = .ok (.aload_n 0, 1) := dk_42 (dk_at dksX2_lays_0 16 rfl rfl)
theorem dX2_lays_17 : decode cX2_lays 17 = .ok (.iload_n 1, 1) := dk_27 (dk_at dksX2_lays_0 17 rfl rfl)
theorem dX2_lays_18 : decode cX2_lays 18 = .ok (.iload 4, 2) := dk_21 4 (dk_at dksX2_lays_0 18 rfl rfl)
theorem dX2_lays_20 : decode cX2_lays 20 = .ok (.iadd, 1) := dk_96 (dk_at dksX2_lays_0 20 rfl rfl)
theorem dX2_lays_21 : decode cX2_lays 21 = .ok (.iaload, 1) := dk_46 (dk_at dksX2_lays_0 21 rfl rfl)
theorem dX2_lays_22 : decode cX2_lays 22 = .ok (.iastore, 1) := dk_79 (dk_at dksX2_lays_0 22 rfl rfl)
theorem dX2_lays_23 : decode cX2_lays 23 = .ok (.iinc 4 1, 3) := dk_132 4 1 (dk_at dksX2_lays_1 0 rfl rfl)
theorem dX2_lays_26 : decode cX2_lays 26 = .ok (.goto (-23), 3) := dk_167 255 233 (dk_at dksX2_lays_1 3 rfl rfl)
theorem dX2_lays_29 : decode cX2_lays 29 = .ok (.return_, 1) := dk_177 (dk_at dksX2_lays_1 6 rfl rfl)
abbrev cX2_readsText : ByteArray := prog_12_method_35_code
def yX2_readsText : MethodName := ⟨RX2, "readsText", "()V"⟩
def dkwX2_readsText_3 : List UInt8 := [154, 0, 8, 42, 4, 182, 0, 110, 177]
abbrev dktX2_readsText_3 : List UInt8 := dkwX2_readsText_3 ++ []
def dkwX2_readsText_2 : List UInt8 := [42, 7, 182, 0, 97, 153, 0, 14, 42, 182, 0, 120, 42, 182, 0, 217, 167, 255, 240, 42, 4, 182, 0, 97]
abbrev dktX2_readsText_2 : List UInt8 := dkwX2_readsText_2 ++ dktX2_readsText_3
def dkwX2_readsText_1 : List UInt8 := [180, 0, 9, 3, 42, 5, 16, 6, 182, 0, 123, 79, 42, 180, 0, 9, 4, 42, 3, 8, 182, 0, 123, 79]
abbrev dktX2_readsText_1 : List UInt8 := dkwX2_readsText_1 ++ dktX2_readsText_2
def dkwX2_readsText_0 : List UInt8 := [42, 182, 0, 120, 42, 18, 215, 182, 0, 154, 154, 0, 8, 42, 4, 182, 0, 110, 42, 182, 0, 120, 42]
abbrev dktX2_readsText_0 : List UInt8 := dkwX2_readsText_0 ++ dktX2_readsText_1
theorem dksX2_readsText_0 : cX2_readsText.data.toList.drop 0 = dktX2_readsText_0 := by decide +kernel
theorem dksX2_readsText_1 : cX2_readsText.data.toList.drop 23 = dktX2_readsText_1 := dk_seg dksX2_readsText_0 23 rfl rfl
theorem dksX2_readsText_2 : cX2_readsText.data.toList.drop 47 = dktX2_readsText_2 := dk_seg dksX2_readsText_1 24 rfl rfl
theorem dksX2_readsText_3 : cX2_readsText.data.toList.drop 71 = dktX2_readsText_3 := dk_seg dksX2_readsText_2 24 rfl rfl
theorem dX2_readsText_0 : decode cX2_readsText 0 = .ok (.aload_n 0, 1) := dk_42 (dk_at dksX2_readsText_0 0 rfl rfl)
theorem dX2_readsText_1 : decode cX2_readsText 1 = .ok (.invokevirtual 120, 3) := dk_182 0 120 (dk_at dksX2_readsText_0 1 rfl rfl)
theorem dX2_readsText_4 : decode cX2_readsText 4 = .ok (.aload_n 0, 1) := dk_42 (dk_at dksX2_readsText_0 4 rfl rfl)
theorem dX2_readsText_5 : decode cX2_readsText 5 = .ok (.ldc 215, 2) := dk_18 215 (dk_at dksX2_readsText_0 5 rfl rfl)
theorem dX2_readsText_7 : decode cX2_readsText 7 = .ok (.invokevirtual 154, 3) := dk_182 0 154 (dk_at dksX2_readsText_0 7 rfl rfl)
theorem dX2_readsText_10 : decode cX2_readsText 10 = .ok (.ifCond .ne 8, 3) := dk_154 0 8 (dk_at dksX2_readsText_0 10 rfl rfl)
theorem dX2_readsText_13 : decode cX2_readsText 13 = .ok (.aload_n 0, 1) := dk_42 (dk_at dksX2_readsText_0 13 rfl rfl)
theorem dX2_readsText_14 : decode cX2_readsText 14 = .ok (.iconst 1, 1) := dk_4 (dk_at dksX2_readsText_0 14 rfl rfl)
theorem dX2_readsText_15 : decode cX2_readsText 15 = .ok (.invokevirtual 110, 3) := dk_182 0 110 (dk_at dksX2_readsText_0 15 rfl rfl)
theorem dX2_readsText_18 : decode cX2_readsText 18 = .ok (.aload_n 0, 1) := dk_42 (dk_at dksX2_readsText_0 18 rfl rfl)
theorem dX2_readsText_19 : decode cX2_readsText 19 = .ok (.invokevirtual 120, 3) := dk_182 0 120 (dk_at dksX2_readsText_0 19 rfl rfl)
theorem dX2_readsText_22 : decode cX2_readsText 22 = .ok (.aload_n 0, 1) := dk_42 (dk_at dksX2_readsText_0 22 rfl rfl)
theorem dX2_readsText_23 : decode cX2_readsText 23 = .ok (.getfield 9, 3) := dk_180 0 9 (dk_at dksX2_readsText_1 0 rfl rfl)
theorem dX2_readsText_26 : decode cX2_readsText 26 = .ok (.iconst 0, 1) := dk_3 (dk_at dksX2_readsText_1 3 rfl rfl)
theorem dX2_readsText_27 : decode cX2_readsText 27 = .ok (.aload_n 0, 1) := dk_42 (dk_at dksX2_readsText_1 4 rfl rfl)
theorem dX2_readsText_28 : decode cX2_readsText 28 = .ok (.iconst 2, 1) := dk_5 (dk_at dksX2_readsText_1 5 rfl rfl)
theorem dX2_readsText_29 : decode cX2_readsText 29 = .ok (.bipush 6, 2) := dk_16 6 (dk_at dksX2_readsText_1 6 rfl rfl)
theorem dX2_readsText_31 : decode cX2_readsText 31 = .ok (.invokevirtual 123, 3) := dk_182 0 123 (dk_at dksX2_readsText_1 8 rfl rfl)
theorem dX2_readsText_34 : decode cX2_readsText 34 = .ok (.iastore, 1) := dk_79 (dk_at dksX2_readsText_1 11 rfl rfl)
theorem dX2_readsText_35 : decode cX2_readsText 35 = .ok (.aload_n 0, 1) := dk_42 (dk_at dksX2_readsText_1 12 rfl rfl)
theorem dX2_readsText_36 : decode cX2_readsText 36 = .ok (.getfield 9, 3) := dk_180 0 9 (dk_at dksX2_readsText_1 13 rfl rfl)
theorem dX2_readsText_39 : decode cX2_readsText 39 = .ok (.iconst 1, 1) := dk_4 (dk_at dksX2_readsText_1 16 rfl rfl)
theorem dX2_readsText_40 : decode cX2_readsText 40 = .ok (.aload_n 0, 1) := dk_42 (dk_at dksX2_readsText_1 17 rfl rfl)
theorem dX2_readsText_41 : decode cX2_readsText 41 = .ok (.iconst 0, 1) := dk_3 (dk_at dksX2_readsText_1 18 rfl rfl)
theorem dX2_readsText_42 : decode cX2_readsText 42 = .ok (.iconst 5, 1) := dk_8 (dk_at dksX2_readsText_1 19 rfl rfl)
theorem dX2_readsText_43 : decode cX2_readsText 43 = .ok (.invokevirtual 123, 3) := dk_182 0 123 (dk_at dksX2_readsText_1 20 rfl rfl)
theorem dX2_readsText_46 : decode cX2_readsText 46 = .ok (.iastore, 1) := dk_79 (dk_at dksX2_readsText_1 23 rfl rfl)
theorem dX2_readsText_47 : decode cX2_readsText 47 = .ok (.aload_n 0, 1) := dk_42 (dk_at dksX2_readsText_2 0 rfl rfl)
theorem dX2_readsText_48 : decode cX2_readsText 48 = .ok (.iconst 4, 1) := dk_7 (dk_at dksX2_readsText_2 1 rfl rfl)
theorem dX2_readsText_49 : decode cX2_readsText 49 = .ok (.invokevirtual 97, 3) := dk_182 0 97 (dk_at dksX2_readsText_2 2 rfl rfl)
theorem dX2_readsText_52 : decode cX2_readsText 52 = .ok (.ifCond .eq 14, 3) := dk_153 0 14 (dk_at dksX2_readsText_2 5 rfl rfl)
theorem dX2_readsText_55 : decode cX2_readsText 55 = .ok (.aload_n 0, 1) := dk_42 (dk_at dksX2_readsText_2 8 rfl rfl)
theorem dX2_readsText_56 : decode cX2_readsText 56 = .ok (.invokevirtual 120, 3) := dk_182 0 120 (dk_at dksX2_readsText_2 9 rfl rfl)
theorem dX2_readsText_59 : decode cX2_readsText 59 = .ok (.aload_n 0, 1) := dk_42 (dk_at dksX2_readsText_2 12 rfl rfl)
theorem dX2_readsText_60 : decode cX2_readsText 60 = .ok (.invokevirtual 217, 3) := dk_182 0 217 (dk_at dksX2_readsText_2 13 rfl rfl)
theorem dX2_readsText_63 : decode cX2_readsText 63 = .ok (.goto (-16), 3) := dk_167 255 240 (dk_at dksX2_readsText_2 16 rfl rfl)
theorem dX2_readsText_66 : decode cX2_readsText 66 = .ok (.aload_n 0, 1) := dk_42 (dk_at dksX2_readsText_2 19 rfl rfl)
theorem dX2_readsText_67 : decode cX2_readsText 67 = .ok (.iconst 1, 1) := dk_4 (dk_at dksX2_readsText_2 20 rfl rfl)
theorem dX2_readsText_68 : decode cX2_readsText 68 = .ok (.invokevirtual 97, 3) := dk_182 0 97 (dk_at dksX2_readsText_2 21 rfl rfl)
theorem dX2_readsText_71 : decode cX2_readsText 71 = .ok (.ifCond .ne 8, 3) := dk_154 0 8 (dk_at dksX2_readsText_3 0 rfl rfl)
theorem dX2_readsText_74 : decode cX2_readsText 74 = .ok (.aload_n 0, 1) := dk_42 (dk_at dksX2_readsText_3 3 rfl rfl)
theorem dX2_readsText_75 : decode cX2_readsText 75 = .ok (.iconst 1, 1) := dk_4 (dk_at dksX2_readsText_3 4 rfl rfl)
theorem dX2_readsText_76 : decode cX2_readsText 76 = .ok (.invokevirtual 110, 3) := dk_182 0 110 (dk_at dksX2_readsText_3 5 rfl rfl)
theorem dX2_readsText_79 : decode cX2_readsText 79 = .ok (.return_, 1) := dk_177 (dk_at dksX2_readsText_3 8 rfl rfl)
abbrev cX2_goes : ByteArray := prog_12_method_18_code
def yX2_goes : MethodName := ⟨RX2, "goes", "()V"⟩
def dkwX2_goes_9 : List UInt8 := [160, 0, 7, 7, 167, 0, 4, 3, 181, 0, 87, 42, 89, 180, 0, 81, 4, 96, 181, 0, 81, 177]
abbrev dktX2_goes_9 : List UInt8 := dkwX2_goes_9 ++ []
def dkwX2_goes_8 : List UInt8 := [163, 0, 7, 6, 167, 0, 4, 3, 181, 0, 87, 177, 42, 42, 180, 0, 26, 42, 180, 0, 81, 51, 16, 59]
abbrev dktX2_goes_8 : List UInt8 := dkwX2_goes_8 ++ dktX2_goes_9
def dkwX2_goes_7 : List UInt8 := [180, 0, 81, 4, 96, 181, 0, 81, 167, 255, 235, 42, 42, 180, 0, 81, 42, 180, 0, 84, 100, 16, 12]
abbrev dktX2_goes_7 : List UInt8 := dkwX2_goes_7 ++ dktX2_goes_8
def dkwX2_goes_6 : List UInt8 := [42, 180, 0, 81, 182, 0, 94, 153, 0, 51, 42, 42, 180, 0, 81, 182, 0, 94, 153, 0, 16, 42, 89]
abbrev dktX2_goes_6 : List UInt8 := dkwX2_goes_6 ++ dktX2_goes_7
def dkwX2_goes_5 : List UInt8 := [42, 180, 0, 81, 42, 180, 0, 84, 100, 16, 6, 163, 0, 7, 5, 167, 0, 4, 3, 181, 0, 87, 177, 42]
abbrev dktX2_goes_5 : List UInt8 := dkwX2_goes_5 ++ dktX2_goes_6
def dkwX2_goes_4 : List UInt8 := [42, 180, 0, 81, 182, 0, 90, 153, 0, 16, 42, 89, 180, 0, 81, 4, 96, 181, 0, 81, 167, 255, 235, 42]
abbrev dktX2_goes_4 : List UInt8 := dkwX2_goes_4 ++ dktX2_goes_5
def dkwX2_goes_3 : List UInt8 := [181, 0, 87, 42, 180, 0, 87, 4, 160, 0, 4, 177, 42, 42, 180, 0, 81, 182, 0, 90, 153, 0, 51, 42]
abbrev dktX2_goes_3 : List UInt8 := dkwX2_goes_3 ++ dktX2_goes_4
def dkwX2_goes_2 : List UInt8 := [180, 0, 81, 181, 0, 84, 42, 42, 180, 0, 81, 42, 180, 0, 74, 160, 0, 7, 4, 167, 0, 4, 3]
abbrev dktX2_goes_2 : List UInt8 := dkwX2_goes_2 ++ dktX2_goes_3
def dkwX2_goes_1 : List UInt8 := [180, 0, 81, 51, 16, 32, 160, 0, 16, 42, 89, 180, 0, 81, 4, 96, 181, 0, 81, 167, 255, 221, 42, 42]
abbrev dktX2_goes_1 : List UInt8 := dkwX2_goes_1 ++ dktX2_goes_2
def dkwX2_goes_0 : List UInt8 := [42, 180, 0, 71, 158, 0, 4, 177, 42, 180, 0, 81, 42, 180, 0, 74, 162, 0, 30, 42, 180, 0, 26, 42]
abbrev dktX2_goes_0 : List UInt8 := dkwX2_goes_0 ++ dktX2_goes_1
theorem dksX2_goes_0 : cX2_goes.data.toList.drop 0 = dktX2_goes_0 := by decide +kernel
theorem dksX2_goes_1 : cX2_goes.data.toList.drop 24 = dktX2_goes_1 := dk_seg dksX2_goes_0 24 rfl rfl
theorem dksX2_goes_2 : cX2_goes.data.toList.drop 48 = dktX2_goes_2 := dk_seg dksX2_goes_1 24 rfl rfl
theorem dksX2_goes_3 : cX2_goes.data.toList.drop 71 = dktX2_goes_3 := dk_seg dksX2_goes_2 23 rfl rfl
theorem dksX2_goes_4 : cX2_goes.data.toList.drop 95 = dktX2_goes_4 := dk_seg dksX2_goes_3 24 rfl rfl
theorem dksX2_goes_5 : cX2_goes.data.toList.drop 119 = dktX2_goes_5 := dk_seg dksX2_goes_4 24 rfl rfl
theorem dksX2_goes_6 : cX2_goes.data.toList.drop 143 = dktX2_goes_6 := dk_seg dksX2_goes_5 24 rfl rfl
theorem dksX2_goes_7 : cX2_goes.data.toList.drop 166 = dktX2_goes_7 := dk_seg dksX2_goes_6 23 rfl rfl
theorem dksX2_goes_8 : cX2_goes.data.toList.drop 189 = dktX2_goes_8 := dk_seg dksX2_goes_7 23 rfl rfl
theorem dksX2_goes_9 : cX2_goes.data.toList.drop 213 = dktX2_goes_9 := dk_seg dksX2_goes_8 24 rfl rfl
theorem dX2_goes_0 : decode cX2_goes 0 = .ok (.aload_n 0, 1) := dk_42 (dk_at dksX2_goes_0 0 rfl rfl)
theorem dX2_goes_1 : decode cX2_goes 1 = .ok (.getfield 71, 3) := dk_180 0 71 (dk_at dksX2_goes_0 1 rfl rfl)
theorem dX2_goes_4 : decode cX2_goes 4 = .ok (.ifCond .le 4, 3) := dk_158 0 4 (dk_at dksX2_goes_0 4 rfl rfl)
theorem dX2_goes_7 : decode cX2_goes 7 = .ok (.return_, 1) := dk_177 (dk_at dksX2_goes_0 7 rfl rfl)
theorem dX2_goes_8 : decode cX2_goes 8 = .ok (.aload_n 0, 1) := dk_42 (dk_at dksX2_goes_0 8 rfl rfl)
theorem dX2_goes_9 : decode cX2_goes 9 = .ok (.getfield 81, 3) := dk_180 0 81 (dk_at dksX2_goes_0 9 rfl rfl)
theorem dX2_goes_12 : decode cX2_goes 12 = .ok (.aload_n 0, 1) := dk_42 (dk_at dksX2_goes_0 12 rfl rfl)
theorem dX2_goes_13 : decode cX2_goes 13 = .ok (.getfield 74, 3) := dk_180 0 74 (dk_at dksX2_goes_0 13 rfl rfl)
theorem dX2_goes_16 : decode cX2_goes 16 = .ok (.if_icmp .ge 30, 3) := dk_162 0 30 (dk_at dksX2_goes_0 16 rfl rfl)
theorem dX2_goes_19 : decode cX2_goes 19 = .ok (.aload_n 0, 1) := dk_42 (dk_at dksX2_goes_0 19 rfl rfl)
theorem dX2_goes_20 : decode cX2_goes 20 = .ok (.getfield 26, 3) := dk_180 0 26 (dk_at dksX2_goes_0 20 rfl rfl)
theorem dX2_goes_23 : decode cX2_goes 23 = .ok (.aload_n 0, 1) := dk_42 (dk_at dksX2_goes_0 23 rfl rfl)
theorem dX2_goes_24 : decode cX2_goes 24 = .ok (.getfield 81, 3) := dk_180 0 81 (dk_at dksX2_goes_1 0 rfl rfl)
theorem dX2_goes_27 : decode cX2_goes 27 = .ok (.baload, 1) := dk_51 (dk_at dksX2_goes_1 3 rfl rfl)
theorem dX2_goes_28 : decode cX2_goes 28 = .ok (.bipush 32, 2) := dk_16 32 (dk_at dksX2_goes_1 4 rfl rfl)
theorem dX2_goes_30 : decode cX2_goes 30 = .ok (.if_icmp .ne 16, 3) := dk_160 0 16 (dk_at dksX2_goes_1 6 rfl rfl)
theorem dX2_goes_33 : decode cX2_goes 33 = .ok (.aload_n 0, 1) := dk_42 (dk_at dksX2_goes_1 9 rfl rfl)
theorem dX2_goes_34 : decode cX2_goes 34 = .ok (.dup, 1) := dk_89 (dk_at dksX2_goes_1 10 rfl rfl)
theorem dX2_goes_35 : decode cX2_goes 35 = .ok (.getfield 81, 3) := dk_180 0 81 (dk_at dksX2_goes_1 11 rfl rfl)
theorem dX2_goes_38 : decode cX2_goes 38 = .ok (.iconst 1, 1) := dk_4 (dk_at dksX2_goes_1 14 rfl rfl)
theorem dX2_goes_39 : decode cX2_goes 39 = .ok (.iadd, 1) := dk_96 (dk_at dksX2_goes_1 15 rfl rfl)
theorem dX2_goes_40 : decode cX2_goes 40 = .ok (.putfield 81, 3) := dk_181 0 81 (dk_at dksX2_goes_1 16 rfl rfl)
theorem dX2_goes_43 : decode cX2_goes 43 = .ok (.goto (-35), 3) := dk_167 255 221 (dk_at dksX2_goes_1 19 rfl rfl)
theorem dX2_goes_46 : decode cX2_goes 46 = .ok (.aload_n 0, 1) := dk_42 (dk_at dksX2_goes_1 22 rfl rfl)
theorem dX2_goes_47 : decode cX2_goes 47 = .ok (.aload_n 0, 1) := dk_42 (dk_at dksX2_goes_1 23 rfl rfl)
theorem dX2_goes_48 : decode cX2_goes 48 = .ok (.getfield 81, 3) := dk_180 0 81 (dk_at dksX2_goes_2 0 rfl rfl)
theorem dX2_goes_51 : decode cX2_goes 51 = .ok (.putfield 84, 3) := dk_181 0 84 (dk_at dksX2_goes_2 3 rfl rfl)
theorem dX2_goes_54 : decode cX2_goes 54 = .ok (.aload_n 0, 1) := dk_42 (dk_at dksX2_goes_2 6 rfl rfl)
theorem dX2_goes_55 : decode cX2_goes 55 = .ok (.aload_n 0, 1) := dk_42 (dk_at dksX2_goes_2 7 rfl rfl)
theorem dX2_goes_56 : decode cX2_goes 56 = .ok (.getfield 81, 3) := dk_180 0 81 (dk_at dksX2_goes_2 8 rfl rfl)
theorem dX2_goes_59 : decode cX2_goes 59 = .ok (.aload_n 0, 1) := dk_42 (dk_at dksX2_goes_2 11 rfl rfl)
theorem dX2_goes_60 : decode cX2_goes 60 = .ok (.getfield 74, 3) := dk_180 0 74 (dk_at dksX2_goes_2 12 rfl rfl)
theorem dX2_goes_63 : decode cX2_goes 63 = .ok (.if_icmp .ne 7, 3) := dk_160 0 7 (dk_at dksX2_goes_2 15 rfl rfl)
theorem dX2_goes_66 : decode cX2_goes 66 = .ok (.iconst 1, 1) := dk_4 (dk_at dksX2_goes_2 18 rfl rfl)
theorem dX2_goes_67 : decode cX2_goes 67 = .ok (.goto 4, 3) := dk_167 0 4 (dk_at dksX2_goes_2 19 rfl rfl)
theorem dX2_goes_70 : decode cX2_goes 70 = .ok (.iconst 0, 1) := dk_3 (dk_at dksX2_goes_2 22 rfl rfl)
theorem dX2_goes_71 : decode cX2_goes 71 = .ok (.putfield 87, 3) := dk_181 0 87 (dk_at dksX2_goes_3 0 rfl rfl)
theorem dX2_goes_74 : decode cX2_goes 74 = .ok (.aload_n 0, 1) := dk_42 (dk_at dksX2_goes_3 3 rfl rfl)
theorem dX2_goes_75 : decode cX2_goes 75 = .ok (.getfield 87, 3) := dk_180 0 87 (dk_at dksX2_goes_3 4 rfl rfl)
theorem dX2_goes_78 : decode cX2_goes 78 = .ok (.iconst 1, 1) := dk_4 (dk_at dksX2_goes_3 7 rfl rfl)
theorem dX2_goes_79 : decode cX2_goes 79 = .ok (.if_icmp .ne 4, 3) := dk_160 0 4 (dk_at dksX2_goes_3 8 rfl rfl)
theorem dX2_goes_82 : decode cX2_goes 82 = .ok (.return_, 1) := dk_177 (dk_at dksX2_goes_3 11 rfl rfl)
theorem dX2_goes_83 : decode cX2_goes 83 = .ok (.aload_n 0, 1) := dk_42 (dk_at dksX2_goes_3 12 rfl rfl)
theorem dX2_goes_84 : decode cX2_goes 84 = .ok (.aload_n 0, 1) := dk_42 (dk_at dksX2_goes_3 13 rfl rfl)
theorem dX2_goes_85 : decode cX2_goes 85 = .ok (.getfield 81, 3) := dk_180 0 81 (dk_at dksX2_goes_3 14 rfl rfl)
theorem dX2_goes_88 : decode cX2_goes 88 = .ok (.invokevirtual 90, 3) := dk_182 0 90 (dk_at dksX2_goes_3 17 rfl rfl)
theorem dX2_goes_91 : decode cX2_goes 91 = .ok (.ifCond .eq 51, 3) := dk_153 0 51 (dk_at dksX2_goes_3 20 rfl rfl)
theorem dX2_goes_94 : decode cX2_goes 94 = .ok (.aload_n 0, 1) := dk_42 (dk_at dksX2_goes_3 23 rfl rfl)
theorem dX2_goes_95 : decode cX2_goes 95 = .ok (.aload_n 0, 1) := dk_42 (dk_at dksX2_goes_4 0 rfl rfl)
theorem dX2_goes_96 : decode cX2_goes 96 = .ok (.getfield 81, 3) := dk_180 0 81 (dk_at dksX2_goes_4 1 rfl rfl)
theorem dX2_goes_99 : decode cX2_goes 99 = .ok (.invokevirtual 90, 3) := dk_182 0 90 (dk_at dksX2_goes_4 4 rfl rfl)
theorem dX2_goes_102 : decode cX2_goes 102 = .ok (.ifCond .eq 16, 3) := dk_153 0 16 (dk_at dksX2_goes_4 7 rfl rfl)
theorem dX2_goes_105 : decode cX2_goes 105 = .ok (.aload_n 0, 1) := dk_42 (dk_at dksX2_goes_4 10 rfl rfl)
theorem dX2_goes_106 : decode cX2_goes 106 = .ok (.dup, 1) := dk_89 (dk_at dksX2_goes_4 11 rfl rfl)
theorem dX2_goes_107 : decode cX2_goes 107 = .ok (.getfield 81, 3) := dk_180 0 81 (dk_at dksX2_goes_4 12 rfl rfl)
theorem dX2_goes_110 : decode cX2_goes 110 = .ok (.iconst 1, 1) := dk_4 (dk_at dksX2_goes_4 15 rfl rfl)
theorem dX2_goes_111 : decode cX2_goes 111 = .ok (.iadd, 1) := dk_96 (dk_at dksX2_goes_4 16 rfl rfl)
theorem dX2_goes_112 : decode cX2_goes 112 = .ok (.putfield 81, 3) := dk_181 0 81 (dk_at dksX2_goes_4 17 rfl rfl)
theorem dX2_goes_115 : decode cX2_goes 115 = .ok (.goto (-21), 3) := dk_167 255 235 (dk_at dksX2_goes_4 20 rfl rfl)
theorem dX2_goes_118 : decode cX2_goes 118 = .ok (.aload_n 0, 1) := dk_42 (dk_at dksX2_goes_4 23 rfl rfl)
theorem dX2_goes_119 : decode cX2_goes 119 = .ok (.aload_n 0, 1) := dk_42 (dk_at dksX2_goes_5 0 rfl rfl)
theorem dX2_goes_120 : decode cX2_goes 120 = .ok (.getfield 81, 3) := dk_180 0 81 (dk_at dksX2_goes_5 1 rfl rfl)
theorem dX2_goes_123 : decode cX2_goes 123 = .ok (.aload_n 0, 1) := dk_42 (dk_at dksX2_goes_5 4 rfl rfl)
theorem dX2_goes_124 : decode cX2_goes 124 = .ok (.getfield 84, 3) := dk_180 0 84 (dk_at dksX2_goes_5 5 rfl rfl)
theorem dX2_goes_127 : decode cX2_goes 127 = .ok (.isub, 1) := dk_100 (dk_at dksX2_goes_5 8 rfl rfl)
theorem dX2_goes_128 : decode cX2_goes 128 = .ok (.bipush 6, 2) := dk_16 6 (dk_at dksX2_goes_5 9 rfl rfl)
theorem dX2_goes_130 : decode cX2_goes 130 = .ok (.if_icmp .gt 7, 3) := dk_163 0 7 (dk_at dksX2_goes_5 11 rfl rfl)
theorem dX2_goes_133 : decode cX2_goes 133 = .ok (.iconst 2, 1) := dk_5 (dk_at dksX2_goes_5 14 rfl rfl)
theorem dX2_goes_134 : decode cX2_goes 134 = .ok (.goto 4, 3) := dk_167 0 4 (dk_at dksX2_goes_5 15 rfl rfl)
theorem dX2_goes_137 : decode cX2_goes 137 = .ok (.iconst 0, 1) := dk_3 (dk_at dksX2_goes_5 18 rfl rfl)
theorem dX2_goes_138 : decode cX2_goes 138 = .ok (.putfield 87, 3) := dk_181 0 87 (dk_at dksX2_goes_5 19 rfl rfl)
theorem dX2_goes_141 : decode cX2_goes 141 = .ok (.return_, 1) := dk_177 (dk_at dksX2_goes_5 22 rfl rfl)
theorem dX2_goes_142 : decode cX2_goes 142 = .ok (.aload_n 0, 1) := dk_42 (dk_at dksX2_goes_5 23 rfl rfl)
theorem dX2_goes_143 : decode cX2_goes 143 = .ok (.aload_n 0, 1) := dk_42 (dk_at dksX2_goes_6 0 rfl rfl)
theorem dX2_goes_144 : decode cX2_goes 144 = .ok (.getfield 81, 3) := dk_180 0 81 (dk_at dksX2_goes_6 1 rfl rfl)
theorem dX2_goes_147 : decode cX2_goes 147 = .ok (.invokevirtual 94, 3) := dk_182 0 94 (dk_at dksX2_goes_6 4 rfl rfl)
theorem dX2_goes_150 : decode cX2_goes 150 = .ok (.ifCond .eq 51, 3) := dk_153 0 51 (dk_at dksX2_goes_6 7 rfl rfl)
theorem dX2_goes_153 : decode cX2_goes 153 = .ok (.aload_n 0, 1) := dk_42 (dk_at dksX2_goes_6 10 rfl rfl)
theorem dX2_goes_154 : decode cX2_goes 154 = .ok (.aload_n 0, 1) := dk_42 (dk_at dksX2_goes_6 11 rfl rfl)
theorem dX2_goes_155 : decode cX2_goes 155 = .ok (.getfield 81, 3) := dk_180 0 81 (dk_at dksX2_goes_6 12 rfl rfl)
theorem dX2_goes_158 : decode cX2_goes 158 = .ok (.invokevirtual 94, 3) := dk_182 0 94 (dk_at dksX2_goes_6 15 rfl rfl)
theorem dX2_goes_161 : decode cX2_goes 161 = .ok (.ifCond .eq 16, 3) := dk_153 0 16 (dk_at dksX2_goes_6 18 rfl rfl)
theorem dX2_goes_164 : decode cX2_goes 164 = .ok (.aload_n 0, 1) := dk_42 (dk_at dksX2_goes_6 21 rfl rfl)
theorem dX2_goes_165 : decode cX2_goes 165 = .ok (.dup, 1) := dk_89 (dk_at dksX2_goes_6 22 rfl rfl)
theorem dX2_goes_166 : decode cX2_goes 166 = .ok (.getfield 81, 3) := dk_180 0 81 (dk_at dksX2_goes_7 0 rfl rfl)
theorem dX2_goes_169 : decode cX2_goes 169 = .ok (.iconst 1, 1) := dk_4 (dk_at dksX2_goes_7 3 rfl rfl)
theorem dX2_goes_170 : decode cX2_goes 170 = .ok (.iadd, 1) := dk_96 (dk_at dksX2_goes_7 4 rfl rfl)
theorem dX2_goes_171 : decode cX2_goes 171 = .ok (.putfield 81, 3) := dk_181 0 81 (dk_at dksX2_goes_7 5 rfl rfl)
theorem dX2_goes_174 : decode cX2_goes 174 = .ok (.goto (-21), 3) := dk_167 255 235 (dk_at dksX2_goes_7 8 rfl rfl)
theorem dX2_goes_177 : decode cX2_goes 177 = .ok (.aload_n 0, 1) := dk_42 (dk_at dksX2_goes_7 11 rfl rfl)
theorem dX2_goes_178 : decode cX2_goes 178 = .ok (.aload_n 0, 1) := dk_42 (dk_at dksX2_goes_7 12 rfl rfl)
theorem dX2_goes_179 : decode cX2_goes 179 = .ok (.getfield 81, 3) := dk_180 0 81 (dk_at dksX2_goes_7 13 rfl rfl)
theorem dX2_goes_182 : decode cX2_goes 182 = .ok (.aload_n 0, 1) := dk_42 (dk_at dksX2_goes_7 16 rfl rfl)
theorem dX2_goes_183 : decode cX2_goes 183 = .ok (.getfield 84, 3) := dk_180 0 84 (dk_at dksX2_goes_7 17 rfl rfl)
theorem dX2_goes_186 : decode cX2_goes 186 = .ok (.isub, 1) := dk_100 (dk_at dksX2_goes_7 20 rfl rfl)
theorem dX2_goes_187 : decode cX2_goes 187 = .ok (.bipush 12, 2) := dk_16 12 (dk_at dksX2_goes_7 21 rfl rfl)
theorem dX2_goes_189 : decode cX2_goes 189 = .ok (.if_icmp .gt 7, 3) := dk_163 0 7 (dk_at dksX2_goes_8 0 rfl rfl)
theorem dX2_goes_192 : decode cX2_goes 192 = .ok (.iconst 3, 1) := dk_6 (dk_at dksX2_goes_8 3 rfl rfl)
theorem dX2_goes_193 : decode cX2_goes 193 = .ok (.goto 4, 3) := dk_167 0 4 (dk_at dksX2_goes_8 4 rfl rfl)
theorem dX2_goes_196 : decode cX2_goes 196 = .ok (.iconst 0, 1) := dk_3 (dk_at dksX2_goes_8 7 rfl rfl)
theorem dX2_goes_197 : decode cX2_goes 197 = .ok (.putfield 87, 3) := dk_181 0 87 (dk_at dksX2_goes_8 8 rfl rfl)
theorem dX2_goes_200 : decode cX2_goes 200 = .ok (.return_, 1) := dk_177 (dk_at dksX2_goes_8 11 rfl rfl)
theorem dX2_goes_201 : decode cX2_goes 201 = .ok (.aload_n 0, 1) := dk_42 (dk_at dksX2_goes_8 12 rfl rfl)
theorem dX2_goes_202 : decode cX2_goes 202 = .ok (.aload_n 0, 1) := dk_42 (dk_at dksX2_goes_8 13 rfl rfl)
theorem dX2_goes_203 : decode cX2_goes 203 = .ok (.getfield 26, 3) := dk_180 0 26 (dk_at dksX2_goes_8 14 rfl rfl)
theorem dX2_goes_206 : decode cX2_goes 206 = .ok (.aload_n 0, 1) := dk_42 (dk_at dksX2_goes_8 17 rfl rfl)
theorem dX2_goes_207 : decode cX2_goes 207 = .ok (.getfield 81, 3) := dk_180 0 81 (dk_at dksX2_goes_8 18 rfl rfl)
theorem dX2_goes_210 : decode cX2_goes 210 = .ok (.baload, 1) := dk_51 (dk_at dksX2_goes_8 21 rfl rfl)
theorem dX2_goes_211 : decode cX2_goes 211 = .ok (.bipush 59, 2) := dk_16 59 (dk_at dksX2_goes_8 22 rfl rfl)
theorem dX2_goes_213 : decode cX2_goes 213 = .ok (.if_icmp .ne 7, 3) := dk_160 0 7 (dk_at dksX2_goes_9 0 rfl rfl)
theorem dX2_goes_216 : decode cX2_goes 216 = .ok (.iconst 4, 1) := dk_7 (dk_at dksX2_goes_9 3 rfl rfl)
theorem dX2_goes_217 : decode cX2_goes 217 = .ok (.goto 4, 3) := dk_167 0 4 (dk_at dksX2_goes_9 4 rfl rfl)
theorem dX2_goes_220 : decode cX2_goes 220 = .ok (.iconst 0, 1) := dk_3 (dk_at dksX2_goes_9 7 rfl rfl)
theorem dX2_goes_221 : decode cX2_goes 221 = .ok (.putfield 87, 3) := dk_181 0 87 (dk_at dksX2_goes_9 8 rfl rfl)
theorem dX2_goes_224 : decode cX2_goes 224 = .ok (.aload_n 0, 1) := dk_42 (dk_at dksX2_goes_9 11 rfl rfl)
theorem dX2_goes_225 : decode cX2_goes 225 = .ok (.dup, 1) := dk_89 (dk_at dksX2_goes_9 12 rfl rfl)
theorem dX2_goes_226 : decode cX2_goes 226 = .ok (.getfield 81, 3) := dk_180 0 81 (dk_at dksX2_goes_9 13 rfl rfl)
theorem dX2_goes_229 : decode cX2_goes 229 = .ok (.iconst 1, 1) := dk_4 (dk_at dksX2_goes_9 16 rfl rfl)
theorem dX2_goes_230 : decode cX2_goes 230 = .ok (.iadd, 1) := dk_96 (dk_at dksX2_goes_9 17 rfl rfl)
theorem dX2_goes_231 : decode cX2_goes 231 = .ok (.putfield 81, 3) := dk_181 0 81 (dk_at dksX2_goes_9 18 rfl rfl)
theorem dX2_goes_234 : decode cX2_goes 234 = .ok (.return_, 1) := dk_177 (dk_at dksX2_goes_9 21 rfl rfl)
abbrev cX2_isLetter : ByteArray := prog_12_method_16_code
def yX2_isLetter : MethodName := ⟨RX2, "isLetter", "(I)Z"⟩
def dkwX2_isLetter_1 : List UInt8 := [4, 167, 0, 4, 3, 172]
abbrev dktX2_isLetter_1 : List UInt8 := dkwX2_isLetter_1 ++ []
def dkwX2_isLetter_0 : List UInt8 := [27, 42, 180, 0, 74, 162, 0, 23, 42, 180, 0, 26, 27, 51, 16, 97, 16, 122, 184, 0, 77, 153, 0, 7]
abbrev dktX2_isLetter_0 : List UInt8 := dkwX2_isLetter_0 ++ dktX2_isLetter_1
theorem dksX2_isLetter_0 : cX2_isLetter.data.toList.drop 0 = dktX2_isLetter_0 := by decide +kernel
theorem dksX2_isLetter_1 : cX2_isLetter.data.toList.drop 24 = dktX2_isLetter_1 := dk_seg dksX2_isLetter_0 24 rfl rfl
theorem dX2_isLetter_0 : decode cX2_isLetter 0 = .ok (.iload_n 1, 1) := dk_27 (dk_at dksX2_isLetter_0 0 rfl rfl)
theorem dX2_isLetter_1 : decode cX2_isLetter 1 = .ok (.aload_n 0, 1) := dk_42 (dk_at dksX2_isLetter_0 1 rfl rfl)
theorem dX2_isLetter_2 : decode cX2_isLetter 2 = .ok (.getfield 74, 3) := dk_180 0 74 (dk_at dksX2_isLetter_0 2 rfl rfl)
theorem dX2_isLetter_5 : decode cX2_isLetter 5 = .ok (.if_icmp .ge 23, 3) := dk_162 0 23 (dk_at dksX2_isLetter_0 5 rfl rfl)
theorem dX2_isLetter_8 : decode cX2_isLetter 8 = .ok (.aload_n 0, 1) := dk_42 (dk_at dksX2_isLetter_0 8 rfl rfl)
theorem dX2_isLetter_9 : decode cX2_isLetter 9 = .ok (.getfield 26, 3) := dk_180 0 26 (dk_at dksX2_isLetter_0 9 rfl rfl)
theorem dX2_isLetter_12 : decode cX2_isLetter 12 = .ok (.iload_n 1, 1) := dk_27 (dk_at dksX2_isLetter_0 12 rfl rfl)
theorem dX2_isLetter_13 : decode cX2_isLetter 13 = .ok (.baload, 1) := dk_51 (dk_at dksX2_isLetter_0 13 rfl rfl)
theorem dX2_isLetter_14 : decode cX2_isLetter 14 = .ok (.bipush 97, 2) := dk_16 97 (dk_at dksX2_isLetter_0 14 rfl rfl)
theorem dX2_isLetter_16 : decode cX2_isLetter 16 = .ok (.bipush 122, 2) := dk_16 122 (dk_at dksX2_isLetter_0 16 rfl rfl)
theorem dX2_isLetter_18 : decode cX2_isLetter 18 = .ok (.invokestatic 77, 3) := dk_184 0 77 (dk_at dksX2_isLetter_0 18 rfl rfl)
theorem dX2_isLetter_21 : decode cX2_isLetter 21 = .ok (.ifCond .eq 7, 3) := dk_153 0 7 (dk_at dksX2_isLetter_0 21 rfl rfl)
theorem dX2_isLetter_24 : decode cX2_isLetter 24 = .ok (.iconst 1, 1) := dk_4 (dk_at dksX2_isLetter_1 0 rfl rfl)
theorem dX2_isLetter_25 : decode cX2_isLetter 25 = .ok (.goto 4, 3) := dk_167 0 4 (dk_at dksX2_isLetter_1 1 rfl rfl)
theorem dX2_isLetter_28 : decode cX2_isLetter 28 = .ok (.iconst 0, 1) := dk_3 (dk_at dksX2_isLetter_1 4 rfl rfl)
theorem dX2_isLetter_29 : decode cX2_isLetter 29 = .ok (.ireturn, 1) := dk_172 (dk_at dksX2_isLetter_1 5 rfl rfl)
abbrev cX2_isDigit : ByteArray := prog_12_method_17_code
def yX2_isDigit : MethodName := ⟨RX2, "isDigit", "(I)Z"⟩
def dkwX2_isDigit_1 : List UInt8 := [4, 167, 0, 4, 3, 172]
abbrev dktX2_isDigit_1 : List UInt8 := dkwX2_isDigit_1 ++ []
def dkwX2_isDigit_0 : List UInt8 := [27, 42, 180, 0, 74, 162, 0, 23, 42, 180, 0, 26, 27, 51, 16, 48, 16, 57, 184, 0, 77, 153, 0, 7]
abbrev dktX2_isDigit_0 : List UInt8 := dkwX2_isDigit_0 ++ dktX2_isDigit_1
theorem dksX2_isDigit_0 : cX2_isDigit.data.toList.drop 0 = dktX2_isDigit_0 := by decide +kernel
theorem dksX2_isDigit_1 : cX2_isDigit.data.toList.drop 24 = dktX2_isDigit_1 := dk_seg dksX2_isDigit_0 24 rfl rfl
theorem dX2_isDigit_0 : decode cX2_isDigit 0 = .ok (.iload_n 1, 1) := dk_27 (dk_at dksX2_isDigit_0 0 rfl rfl)
theorem dX2_isDigit_1 : decode cX2_isDigit 1 = .ok (.aload_n 0, 1) := dk_42 (dk_at dksX2_isDigit_0 1 rfl rfl)
theorem dX2_isDigit_2 : decode cX2_isDigit 2 = .ok (.getfield 74, 3) := dk_180 0 74 (dk_at dksX2_isDigit_0 2 rfl rfl)
theorem dX2_isDigit_5 : decode cX2_isDigit 5 = .ok (.if_icmp .ge 23, 3) := dk_162 0 23 (dk_at dksX2_isDigit_0 5 rfl rfl)
theorem dX2_isDigit_8 : decode cX2_isDigit 8 = .ok (.aload_n 0, 1) := dk_42 (dk_at dksX2_isDigit_0 8 rfl rfl)
theorem dX2_isDigit_9 : decode cX2_isDigit 9 = .ok (.getfield 26, 3) := dk_180 0 26 (dk_at dksX2_isDigit_0 9 rfl rfl)
theorem dX2_isDigit_12 : decode cX2_isDigit 12 = .ok (.iload_n 1, 1) := dk_27 (dk_at dksX2_isDigit_0 12 rfl rfl)
theorem dX2_isDigit_13 : decode cX2_isDigit 13 = .ok (.baload, 1) := dk_51 (dk_at dksX2_isDigit_0 13 rfl rfl)
theorem dX2_isDigit_14 : decode cX2_isDigit 14 = .ok (.bipush 48, 2) := dk_16 48 (dk_at dksX2_isDigit_0 14 rfl rfl)
theorem dX2_isDigit_16 : decode cX2_isDigit 16 = .ok (.bipush 57, 2) := dk_16 57 (dk_at dksX2_isDigit_0 16 rfl rfl)
theorem dX2_isDigit_18 : decode cX2_isDigit 18 = .ok (.invokestatic 77, 3) := dk_184 0 77 (dk_at dksX2_isDigit_0 18 rfl rfl)
theorem dX2_isDigit_21 : decode cX2_isDigit 21 = .ok (.ifCond .eq 7, 3) := dk_153 0 7 (dk_at dksX2_isDigit_0 21 rfl rfl)
theorem dX2_isDigit_24 : decode cX2_isDigit 24 = .ok (.iconst 1, 1) := dk_4 (dk_at dksX2_isDigit_1 0 rfl rfl)
theorem dX2_isDigit_25 : decode cX2_isDigit 25 = .ok (.goto 4, 3) := dk_167 0 4 (dk_at dksX2_isDigit_1 1 rfl rfl)
theorem dX2_isDigit_28 : decode cX2_isDigit 28 = .ok (.iconst 0, 1) := dk_3 (dk_at dksX2_isDigit_1 4 rfl rfl)
theorem dX2_isDigit_29 : decode cX2_isDigit 29 = .ok (.ireturn, 1) := dk_172 (dk_at dksX2_isDigit_1 5 rfl rfl)
abbrev cX2_isWord : ByteArray := prog_12_method_21_code
def yX2_isWord : MethodName := ⟨RX2, "isWord", "(Ljava/lang/String;)Z"⟩
def dkwX2_isWord_2 : List UInt8 := [28, 182, 0, 106, 159, 0, 5, 3, 172, 132, 2, 1, 167, 255, 224, 4, 172]
abbrev dktX2_isWord_2 : List UInt8 := dkwX2_isWord_2 ++ []
def dkwX2_isWord_1 : List UInt8 := [3, 172, 3, 61, 28, 43, 182, 0, 100, 162, 0, 30, 42, 180, 0, 26, 42, 180, 0, 84, 28, 96, 51, 43]
abbrev dktX2_isWord_1 : List UInt8 := dkwX2_isWord_1 ++ dktX2_isWord_2
def dkwX2_isWord_0 : List UInt8 := [42, 5, 182, 0, 97, 153, 0, 19, 42, 180, 0, 81, 42, 180, 0, 84, 100, 43, 182, 0, 100, 159, 0, 5]
abbrev dktX2_isWord_0 : List UInt8 := dkwX2_isWord_0 ++ dktX2_isWord_1
theorem dksX2_isWord_0 : cX2_isWord.data.toList.drop 0 = dktX2_isWord_0 := by decide +kernel
theorem dksX2_isWord_1 : cX2_isWord.data.toList.drop 24 = dktX2_isWord_1 := dk_seg dksX2_isWord_0 24 rfl rfl
theorem dksX2_isWord_2 : cX2_isWord.data.toList.drop 48 = dktX2_isWord_2 := dk_seg dksX2_isWord_1 24 rfl rfl
theorem dX2_isWord_0 : decode cX2_isWord 0 = .ok (.aload_n 0, 1) := dk_42 (dk_at dksX2_isWord_0 0 rfl rfl)
theorem dX2_isWord_1 : decode cX2_isWord 1 = .ok (.iconst 2, 1) := dk_5 (dk_at dksX2_isWord_0 1 rfl rfl)
theorem dX2_isWord_2 : decode cX2_isWord 2 = .ok (.invokevirtual 97, 3) := dk_182 0 97 (dk_at dksX2_isWord_0 2 rfl rfl)
theorem dX2_isWord_5 : decode cX2_isWord 5 = .ok (.ifCond .eq 19, 3) := dk_153 0 19 (dk_at dksX2_isWord_0 5 rfl rfl)
theorem dX2_isWord_8 : decode cX2_isWord 8 = .ok (.aload_n 0, 1) := dk_42 (dk_at dksX2_isWord_0 8 rfl rfl)
theorem dX2_isWord_9 : decode cX2_isWord 9 = .ok (.getfield 81, 3) := dk_180 0 81 (dk_at dksX2_isWord_0 9 rfl rfl)
theorem dX2_isWord_12 : decode cX2_isWord 12 = .ok (.aload_n 0, 1) := dk_42 (dk_at dksX2_isWord_0 12 rfl rfl)
theorem dX2_isWord_13 : decode cX2_isWord 13 = .ok (.getfield 84, 3) := dk_180 0 84 (dk_at dksX2_isWord_0 13 rfl rfl)
theorem dX2_isWord_16 : decode cX2_isWord 16 = .ok (.isub, 1) := dk_100 (dk_at dksX2_isWord_0 16 rfl rfl)
theorem dX2_isWord_17 : decode cX2_isWord 17 = .ok (.aload_n 1, 1) := dk_43 (dk_at dksX2_isWord_0 17 rfl rfl)
theorem dX2_isWord_18 : decode cX2_isWord 18 = .ok (.invokevirtual 100, 3) := dk_182 0 100 (dk_at dksX2_isWord_0 18 rfl rfl)
theorem dX2_isWord_21 : decode cX2_isWord 21 = .ok (.if_icmp .eq 5, 3) := dk_159 0 5 (dk_at dksX2_isWord_0 21 rfl rfl)
theorem dX2_isWord_24 : decode cX2_isWord 24 = .ok (.iconst 0, 1) := dk_3 (dk_at dksX2_isWord_1 0 rfl rfl)
theorem dX2_isWord_25 : decode cX2_isWord 25 = .ok (.ireturn, 1) := dk_172 (dk_at dksX2_isWord_1 1 rfl rfl)
theorem dX2_isWord_26 : decode cX2_isWord 26 = .ok (.iconst 0, 1) := dk_3 (dk_at dksX2_isWord_1 2 rfl rfl)
theorem dX2_isWord_27 : decode cX2_isWord 27 = .ok (.istore_n 2, 1) := dk_61 (dk_at dksX2_isWord_1 3 rfl rfl)
theorem dX2_isWord_28 : decode cX2_isWord 28 = .ok (.iload_n 2, 1) := dk_28 (dk_at dksX2_isWord_1 4 rfl rfl)
theorem dX2_isWord_29 : decode cX2_isWord 29 = .ok (.aload_n 1, 1) := dk_43 (dk_at dksX2_isWord_1 5 rfl rfl)
theorem dX2_isWord_30 : decode cX2_isWord 30 = .ok (.invokevirtual 100, 3) := dk_182 0 100 (dk_at dksX2_isWord_1 6 rfl rfl)
theorem dX2_isWord_33 : decode cX2_isWord 33 = .ok (.if_icmp .ge 30, 3) := dk_162 0 30 (dk_at dksX2_isWord_1 9 rfl rfl)
theorem dX2_isWord_36 : decode cX2_isWord 36 = .ok (.aload_n 0, 1) := dk_42 (dk_at dksX2_isWord_1 12 rfl rfl)
theorem dX2_isWord_37 : decode cX2_isWord 37 = .ok (.getfield 26, 3) := dk_180 0 26 (dk_at dksX2_isWord_1 13 rfl rfl)
theorem dX2_isWord_40 : decode cX2_isWord 40 = .ok (.aload_n 0, 1) := dk_42 (dk_at dksX2_isWord_1 16 rfl rfl)
theorem dX2_isWord_41 : decode cX2_isWord 41 = .ok (.getfield 84, 3) := dk_180 0 84 (dk_at dksX2_isWord_1 17 rfl rfl)
theorem dX2_isWord_44 : decode cX2_isWord 44 = .ok (.iload_n 2, 1) := dk_28 (dk_at dksX2_isWord_1 20 rfl rfl)
theorem dX2_isWord_45 : decode cX2_isWord 45 = .ok (.iadd, 1) := dk_96 (dk_at dksX2_isWord_1 21 rfl rfl)
theorem dX2_isWord_46 : decode cX2_isWord 46 = .ok (.baload, 1) := dk_51 (dk_at dksX2_isWord_1 22 rfl rfl)
theorem dX2_isWord_47 : decode cX2_isWord 47 = .ok (.aload_n 1, 1) := dk_43 (dk_at dksX2_isWord_1 23 rfl rfl)
theorem dX2_isWord_48 : decode cX2_isWord 48 = .ok (.iload_n 2, 1) := dk_28 (dk_at dksX2_isWord_2 0 rfl rfl)
theorem dX2_isWord_49 : decode cX2_isWord 49 = .ok (.invokevirtual 106, 3) := dk_182 0 106 (dk_at dksX2_isWord_2 1 rfl rfl)
theorem dX2_isWord_52 : decode cX2_isWord 52 = .ok (.if_icmp .eq 5, 3) := dk_159 0 5 (dk_at dksX2_isWord_2 4 rfl rfl)
theorem dX2_isWord_55 : decode cX2_isWord 55 = .ok (.iconst 0, 1) := dk_3 (dk_at dksX2_isWord_2 7 rfl rfl)
theorem dX2_isWord_56 : decode cX2_isWord 56 = .ok (.ireturn, 1) := dk_172 (dk_at dksX2_isWord_2 8 rfl rfl)
theorem dX2_isWord_57 : decode cX2_isWord 57 = .ok (.iinc 2 1, 3) := dk_132 2 1 (dk_at dksX2_isWord_2 9 rfl rfl)
theorem dX2_isWord_60 : decode cX2_isWord 60 = .ok (.goto (-32), 3) := dk_167 255 224 (dk_at dksX2_isWord_2 12 rfl rfl)
theorem dX2_isWord_63 : decode cX2_isWord 63 = .ok (.iconst 1, 1) := dk_4 (dk_at dksX2_isWord_2 15 rfl rfl)
theorem dX2_isWord_64 : decode cX2_isWord 64 = .ok (.ireturn, 1) := dk_172 (dk_at dksX2_isWord_2 16 rfl rfl)
abbrev cX2_is : ByteArray := prog_12_method_20_code
def yX2_is : MethodName := ⟨RX2, "is", "(I)Z"⟩
def dkwX2_is_0 : List UInt8 := [42, 180, 0, 71, 154, 0, 15, 42, 180, 0, 87, 27, 160, 0, 7, 4, 167, 0, 4, 3, 172]
abbrev dktX2_is_0 : List UInt8 := dkwX2_is_0 ++ []
theorem dksX2_is_0 : cX2_is.data.toList.drop 0 = dktX2_is_0 := by decide +kernel
theorem dX2_is_0 : decode cX2_is 0 = .ok (.aload_n 0, 1) := dk_42 (dk_at dksX2_is_0 0 rfl rfl)
theorem dX2_is_1 : decode cX2_is 1 = .ok (.getfield 71, 3) := dk_180 0 71 (dk_at dksX2_is_0 1 rfl rfl)
theorem dX2_is_4 : decode cX2_is 4 = .ok (.ifCond .ne 15, 3) := dk_154 0 15 (dk_at dksX2_is_0 4 rfl rfl)
theorem dX2_is_7 : decode cX2_is 7 = .ok (.aload_n 0, 1) := dk_42 (dk_at dksX2_is_0 7 rfl rfl)
theorem dX2_is_8 : decode cX2_is 8 = .ok (.getfield 87, 3) := dk_180 0 87 (dk_at dksX2_is_0 8 rfl rfl)
theorem dX2_is_11 : decode cX2_is 11 = .ok (.iload_n 1, 1) := dk_27 (dk_at dksX2_is_0 11 rfl rfl)
theorem dX2_is_12 : decode cX2_is 12 = .ok (.if_icmp .ne 7, 3) := dk_160 0 7 (dk_at dksX2_is_0 12 rfl rfl)
theorem dX2_is_15 : decode cX2_is 15 = .ok (.iconst 1, 1) := dk_4 (dk_at dksX2_is_0 15 rfl rfl)
theorem dX2_is_16 : decode cX2_is 16 = .ok (.goto 4, 3) := dk_167 0 4 (dk_at dksX2_is_0 16 rfl rfl)
theorem dX2_is_19 : decode cX2_is 19 = .ok (.iconst 0, 1) := dk_3 (dk_at dksX2_is_0 19 rfl rfl)
theorem dX2_is_20 : decode cX2_is 20 = .ok (.ireturn, 1) := dk_172 (dk_at dksX2_is_0 20 rfl rfl)
abbrev cX2_faults : ByteArray := prog_12_method_19_code
def yX2_faults : MethodName := ⟨RX2, "faults", "(I)V"⟩
def dkwX2_faults_0 : List UInt8 := [42, 180, 0, 71, 158, 0, 4, 177, 42, 27, 181, 0, 71, 42, 42, 180, 0, 84, 181, 0, 30, 177]
abbrev dktX2_faults_0 : List UInt8 := dkwX2_faults_0 ++ []
theorem dksX2_faults_0 : cX2_faults.data.toList.drop 0 = dktX2_faults_0 := by decide +kernel
theorem dX2_faults_0 : decode cX2_faults 0 = .ok (.aload_n 0, 1) := dk_42 (dk_at dksX2_faults_0 0 rfl rfl)
theorem dX2_faults_1 : decode cX2_faults 1 = .ok (.getfield 71, 3) := dk_180 0 71 (dk_at dksX2_faults_0 1 rfl rfl)
theorem dX2_faults_4 : decode cX2_faults 4 = .ok (.ifCond .le 4, 3) := dk_158 0 4 (dk_at dksX2_faults_0 4 rfl rfl)
theorem dX2_faults_7 : decode cX2_faults 7 = .ok (.return_, 1) := dk_177 (dk_at dksX2_faults_0 7 rfl rfl)
theorem dX2_faults_8 : decode cX2_faults 8 = .ok (.aload_n 0, 1) := dk_42 (dk_at dksX2_faults_0 8 rfl rfl)
theorem dX2_faults_9 : decode cX2_faults 9 = .ok (.iload_n 1, 1) := dk_27 (dk_at dksX2_faults_0 9 rfl rfl)
theorem dX2_faults_10 : decode cX2_faults 10 = .ok (.putfield 71, 3) := dk_181 0 71 (dk_at dksX2_faults_0 10 rfl rfl)
theorem dX2_faults_13 : decode cX2_faults 13 = .ok (.aload_n 0, 1) := dk_42 (dk_at dksX2_faults_0 13 rfl rfl)
theorem dX2_faults_14 : decode cX2_faults 14 = .ok (.aload_n 0, 1) := dk_42 (dk_at dksX2_faults_0 14 rfl rfl)
theorem dX2_faults_15 : decode cX2_faults 15 = .ok (.getfield 84, 3) := dk_180 0 84 (dk_at dksX2_faults_0 15 rfl rfl)
theorem dX2_faults_18 : decode cX2_faults 18 = .ok (.putfield 30, 3) := dk_181 0 30 (dk_at dksX2_faults_0 18 rfl rfl)
theorem dX2_faults_21 : decode cX2_faults 21 = .ok (.return_, 1) := dk_177 (dk_at dksX2_faults_0 21 rfl rfl)
abbrev cX2_number : ByteArray := prog_12_method_24_code
def yX2_number : MethodName := ⟨RX2, "number", "(II)I"⟩
def dkwX2_number_0 : List UInt8 := [42, 27, 28, 182, 0, 116, 62, 42, 182, 0, 120, 29, 172]
abbrev dktX2_number_0 : List UInt8 := dkwX2_number_0 ++ []
theorem dksX2_number_0 : cX2_number.data.toList.drop 0 = dktX2_number_0 := by decide +kernel
theorem dX2_number_0 : decode cX2_number 0 = .ok (.aload_n 0, 1) := dk_42 (dk_at dksX2_number_0 0 rfl rfl)
theorem dX2_number_1 : decode cX2_number 1 = .ok (.iload_n 1, 1) := dk_27 (dk_at dksX2_number_0 1 rfl rfl)
theorem dX2_number_2 : decode cX2_number 2 = .ok (.iload_n 2, 1) := dk_28 (dk_at dksX2_number_0 2 rfl rfl)
theorem dX2_number_3 : decode cX2_number 3 = .ok (.invokevirtual 116, 3) := dk_182 0 116 (dk_at dksX2_number_0 3 rfl rfl)
theorem dX2_number_6 : decode cX2_number 6 = .ok (.istore_n 3, 1) := dk_62 (dk_at dksX2_number_0 6 rfl rfl)
theorem dX2_number_7 : decode cX2_number 7 = .ok (.aload_n 0, 1) := dk_42 (dk_at dksX2_number_0 7 rfl rfl)
theorem dX2_number_8 : decode cX2_number 8 = .ok (.invokevirtual 120, 3) := dk_182 0 120 (dk_at dksX2_number_0 8 rfl rfl)
theorem dX2_number_11 : decode cX2_number 11 = .ok (.iload_n 3, 1) := dk_29 (dk_at dksX2_number_0 11 rfl rfl)
theorem dX2_number_12 : decode cX2_number 12 = .ok (.ireturn, 1) := dk_172 (dk_at dksX2_number_0 12 rfl rfl)
abbrev cX2_numberHere : ByteArray := prog_12_method_23_code
def yX2_numberHere : MethodName := ⟨RX2, "numberHere", "(II)I"⟩
def dkwX2_numberHere_2 : List UInt8 := [180, 0, 71, 158, 0, 7, 27, 167, 0, 7, 42, 182, 0, 113, 172]
abbrev dktX2_numberHere_2 : List UInt8 := dkwX2_numberHere_2 ++ []
def dkwX2_numberHere_1 : List UInt8 := [182, 0, 110, 167, 0, 20, 42, 182, 0, 113, 27, 28, 184, 0, 77, 154, 0, 8, 42, 5, 182, 0, 110, 42]
abbrev dktX2_numberHere_1 : List UInt8 := dkwX2_numberHere_1 ++ dktX2_numberHere_2
def dkwX2_numberHere_0 : List UInt8 := [42, 6, 182, 0, 97, 153, 0, 16, 42, 180, 0, 81, 42, 180, 0, 84, 100, 5, 164, 0, 11, 42, 4]
abbrev dktX2_numberHere_0 : List UInt8 := dkwX2_numberHere_0 ++ dktX2_numberHere_1
theorem dksX2_numberHere_0 : cX2_numberHere.data.toList.drop 0 = dktX2_numberHere_0 := by decide +kernel
theorem dksX2_numberHere_1 : cX2_numberHere.data.toList.drop 23 = dktX2_numberHere_1 := dk_seg dksX2_numberHere_0 23 rfl rfl
theorem dksX2_numberHere_2 : cX2_numberHere.data.toList.drop 47 = dktX2_numberHere_2 := dk_seg dksX2_numberHere_1 24 rfl rfl
theorem dX2_numberHere_0 : decode cX2_numberHere 0 = .ok (.aload_n 0, 1) := dk_42 (dk_at dksX2_numberHere_0 0 rfl rfl)
theorem dX2_numberHere_1 : decode cX2_numberHere 1 = .ok (.iconst 3, 1) := dk_6 (dk_at dksX2_numberHere_0 1 rfl rfl)
theorem dX2_numberHere_2 : decode cX2_numberHere 2 = .ok (.invokevirtual 97, 3) := dk_182 0 97 (dk_at dksX2_numberHere_0 2 rfl rfl)
theorem dX2_numberHere_5 : decode cX2_numberHere 5 = .ok (.ifCond .eq 16, 3) := dk_153 0 16 (dk_at dksX2_numberHere_0 5 rfl rfl)
theorem dX2_numberHere_8 : decode cX2_numberHere 8 = .ok (.aload_n 0, 1) := dk_42 (dk_at dksX2_numberHere_0 8 rfl rfl)
theorem dX2_numberHere_9 : decode cX2_numberHere 9 = .ok (.getfield 81, 3) := dk_180 0 81 (dk_at dksX2_numberHere_0 9 rfl rfl)
theorem dX2_numberHere_12 : decode cX2_numberHere 12 = .ok (.aload_n 0, 1) := dk_42 (dk_at dksX2_numberHere_0 12 rfl rfl)
theorem dX2_numberHere_13 : decode cX2_numberHere 13 = .ok (.getfield 84, 3) := dk_180 0 84 (dk_at dksX2_numberHere_0 13 rfl rfl)
theorem dX2_numberHere_16 : decode cX2_numberHere 16 = .ok (.isub, 1) := dk_100 (dk_at dksX2_numberHere_0 16 rfl rfl)
theorem dX2_numberHere_17 : decode cX2_numberHere 17 = .ok (.iconst 2, 1) := dk_5 (dk_at dksX2_numberHere_0 17 rfl rfl)
theorem dX2_numberHere_18 : decode cX2_numberHere 18 = .ok (.if_icmp .le 11, 3) := dk_164 0 11 (dk_at dksX2_numberHere_0 18 rfl rfl)
theorem dX2_numberHere_21 : decode cX2_numberHere 21 = .ok (.aload_n 0, 1) := dk_42 (dk_at dksX2_numberHere_0 21 rfl rfl)
theorem dX2_numberHere_22 : decode cX2_numberHere 22 = .ok (.iconst 1, 1) := dk_4 (dk_at dksX2_numberHere_0 22 rfl rfl)
theorem dX2_numberHere_23 : decode cX2_numberHere 23 = .ok (.invokevirtual 110, 3) := dk_182 0 110 (dk_at dksX2_numberHere_1 0 rfl rfl)
theorem dX2_numberHere_26 : decode cX2_numberHere 26 = .ok (.goto 20, 3) := dk_167 0 20 (dk_at dksX2_numberHere_1 3 rfl rfl)
theorem dX2_numberHere_29 : decode cX2_numberHere 29 = .ok (.aload_n 0, 1) := dk_42 (dk_at dksX2_numberHere_1 6 rfl rfl)
theorem dX2_numberHere_30 : decode cX2_numberHere 30 = .ok (.invokevirtual 113, 3) := dk_182 0 113 (dk_at dksX2_numberHere_1 7 rfl rfl)
theorem dX2_numberHere_33 : decode cX2_numberHere 33 = .ok (.iload_n 1, 1) := dk_27 (dk_at dksX2_numberHere_1 10 rfl rfl)
theorem dX2_numberHere_34 : decode cX2_numberHere 34 = .ok (.iload_n 2, 1) := dk_28 (dk_at dksX2_numberHere_1 11 rfl rfl)
theorem dX2_numberHere_35 : decode cX2_numberHere 35 = .ok (.invokestatic 77, 3) := dk_184 0 77 (dk_at dksX2_numberHere_1 12 rfl rfl)
theorem dX2_numberHere_38 : decode cX2_numberHere 38 = .ok (.ifCond .ne 8, 3) := dk_154 0 8 (dk_at dksX2_numberHere_1 15 rfl rfl)
theorem dX2_numberHere_41 : decode cX2_numberHere 41 = .ok (.aload_n 0, 1) := dk_42 (dk_at dksX2_numberHere_1 18 rfl rfl)
theorem dX2_numberHere_42 : decode cX2_numberHere 42 = .ok (.iconst 2, 1) := dk_5 (dk_at dksX2_numberHere_1 19 rfl rfl)
theorem dX2_numberHere_43 : decode cX2_numberHere 43 = .ok (.invokevirtual 110, 3) := dk_182 0 110 (dk_at dksX2_numberHere_1 20 rfl rfl)
theorem dX2_numberHere_46 : decode cX2_numberHere 46 = .ok (.aload_n 0, 1) := dk_42 (dk_at dksX2_numberHere_1 23 rfl rfl)
theorem dX2_numberHere_47 : decode cX2_numberHere 47 = .ok (.getfield 71, 3) := dk_180 0 71 (dk_at dksX2_numberHere_2 0 rfl rfl)
theorem dX2_numberHere_50 : decode cX2_numberHere 50 = .ok (.ifCond .le 7, 3) := dk_158 0 7 (dk_at dksX2_numberHere_2 3 rfl rfl)
theorem dX2_numberHere_53 : decode cX2_numberHere 53 = .ok (.iload_n 1, 1) := dk_27 (dk_at dksX2_numberHere_2 6 rfl rfl)
theorem dX2_numberHere_54 : decode cX2_numberHere 54 = .ok (.goto 7, 3) := dk_167 0 7 (dk_at dksX2_numberHere_2 7 rfl rfl)
theorem dX2_numberHere_57 : decode cX2_numberHere 57 = .ok (.aload_n 0, 1) := dk_42 (dk_at dksX2_numberHere_2 10 rfl rfl)
theorem dX2_numberHere_58 : decode cX2_numberHere 58 = .ok (.invokevirtual 113, 3) := dk_182 0 113 (dk_at dksX2_numberHere_2 11 rfl rfl)
theorem dX2_numberHere_61 : decode cX2_numberHere 61 = .ok (.ireturn, 1) := dk_172 (dk_at dksX2_numberHere_2 14 rfl rfl)
abbrev cX2_toldHere : ByteArray := prog_12_method_22_code
def yX2_toldHere : MethodName := ⟨RX2, "toldHere", "()I"⟩
def dkwX2_toldHere_2 : List UInt8 := [167, 0, 4, 27, 172]
abbrev dktX2_toldHere_2 : List UInt8 := dkwX2_toldHere_2 ++ []
def dkwX2_toldHere_1 : List UInt8 := [160, 0, 25, 16, 10, 27, 104, 42, 180, 0, 26, 42, 180, 0, 84, 4, 96, 51, 96, 16, 48, 100]
abbrev dktX2_toldHere_1 : List UInt8 := dkwX2_toldHere_1 ++ dktX2_toldHere_2
def dkwX2_toldHere_0 : List UInt8 := [42, 180, 0, 26, 42, 180, 0, 84, 51, 16, 48, 100, 60, 42, 180, 0, 81, 42, 180, 0, 84, 100, 5]
abbrev dktX2_toldHere_0 : List UInt8 := dkwX2_toldHere_0 ++ dktX2_toldHere_1
theorem dksX2_toldHere_0 : cX2_toldHere.data.toList.drop 0 = dktX2_toldHere_0 := by decide +kernel
theorem dksX2_toldHere_1 : cX2_toldHere.data.toList.drop 23 = dktX2_toldHere_1 := dk_seg dksX2_toldHere_0 23 rfl rfl
theorem dksX2_toldHere_2 : cX2_toldHere.data.toList.drop 45 = dktX2_toldHere_2 := dk_seg dksX2_toldHere_1 22 rfl rfl
theorem dX2_toldHere_0 : decode cX2_toldHere 0 = .ok (.aload_n 0, 1) := dk_42 (dk_at dksX2_toldHere_0 0 rfl rfl)
theorem dX2_toldHere_1 : decode cX2_toldHere 1 = .ok (.getfield 26, 3) := dk_180 0 26 (dk_at dksX2_toldHere_0 1 rfl rfl)
theorem dX2_toldHere_4 : decode cX2_toldHere 4 = .ok (.aload_n 0, 1) := dk_42 (dk_at dksX2_toldHere_0 4 rfl rfl)
theorem dX2_toldHere_5 : decode cX2_toldHere 5 = .ok (.getfield 84, 3) := dk_180 0 84 (dk_at dksX2_toldHere_0 5 rfl rfl)
theorem dX2_toldHere_8 : decode cX2_toldHere 8 = .ok (.baload, 1) := dk_51 (dk_at dksX2_toldHere_0 8 rfl rfl)
theorem dX2_toldHere_9 : decode cX2_toldHere 9 = .ok (.bipush 48, 2) := dk_16 48 (dk_at dksX2_toldHere_0 9 rfl rfl)
theorem dX2_toldHere_11 : decode cX2_toldHere 11 = .ok (.isub, 1) := dk_100 (dk_at dksX2_toldHere_0 11 rfl rfl)
theorem dX2_toldHere_12 : decode cX2_toldHere 12 = .ok (.istore_n 1, 1) := dk_60 (dk_at dksX2_toldHere_0 12 rfl rfl)
theorem dX2_toldHere_13 : decode cX2_toldHere 13 = .ok (.aload_n 0, 1) := dk_42 (dk_at dksX2_toldHere_0 13 rfl rfl)
theorem dX2_toldHere_14 : decode cX2_toldHere 14 = .ok (.getfield 81, 3) := dk_180 0 81 (dk_at dksX2_toldHere_0 14 rfl rfl)
theorem dX2_toldHere_17 : decode cX2_toldHere 17 = .ok (.aload_n 0, 1) := dk_42 (dk_at dksX2_toldHere_0 17 rfl rfl)
theorem dX2_toldHere_18 : decode cX2_toldHere 18 = .ok (.getfield 84, 3) := dk_180 0 84 (dk_at dksX2_toldHere_0 18 rfl rfl)
theorem dX2_toldHere_21 : decode cX2_toldHere 21 = .ok (.isub, 1) := dk_100 (dk_at dksX2_toldHere_0 21 rfl rfl)
theorem dX2_toldHere_22 : decode cX2_toldHere 22 = .ok (.iconst 2, 1) := dk_5 (dk_at dksX2_toldHere_0 22 rfl rfl)
theorem dX2_toldHere_23 : decode cX2_toldHere 23 = .ok (.if_icmp .ne 25, 3) := dk_160 0 25 (dk_at dksX2_toldHere_1 0 rfl rfl)
theorem dX2_toldHere_26 : decode cX2_toldHere 26 = .ok (.bipush 10, 2) := dk_16 10 (dk_at dksX2_toldHere_1 3 rfl rfl)
theorem dX2_toldHere_28 : decode cX2_toldHere 28 = .ok (.iload_n 1, 1) := dk_27 (dk_at dksX2_toldHere_1 5 rfl rfl)
theorem dX2_toldHere_29 : decode cX2_toldHere 29 = .ok (.imul, 1) := dk_104 (dk_at dksX2_toldHere_1 6 rfl rfl)
theorem dX2_toldHere_30 : decode cX2_toldHere 30 = .ok (.aload_n 0, 1) := dk_42 (dk_at dksX2_toldHere_1 7 rfl rfl)
theorem dX2_toldHere_31 : decode cX2_toldHere 31 = .ok (.getfield 26, 3) := dk_180 0 26 (dk_at dksX2_toldHere_1 8 rfl rfl)
theorem dX2_toldHere_34 : decode cX2_toldHere 34 = .ok (.aload_n 0, 1) := dk_42 (dk_at dksX2_toldHere_1 11 rfl rfl)
theorem dX2_toldHere_35 : decode cX2_toldHere 35 = .ok (.getfield 84, 3) := dk_180 0 84 (dk_at dksX2_toldHere_1 12 rfl rfl)
theorem dX2_toldHere_38 : decode cX2_toldHere 38 = .ok (.iconst 1, 1) := dk_4 (dk_at dksX2_toldHere_1 15 rfl rfl)
theorem dX2_toldHere_39 : decode cX2_toldHere 39 = .ok (.iadd, 1) := dk_96 (dk_at dksX2_toldHere_1 16 rfl rfl)
theorem dX2_toldHere_40 : decode cX2_toldHere 40 = .ok (.baload, 1) := dk_51 (dk_at dksX2_toldHere_1 17 rfl rfl)
theorem dX2_toldHere_41 : decode cX2_toldHere 41 = .ok (.iadd, 1) := dk_96 (dk_at dksX2_toldHere_1 18 rfl rfl)
theorem dX2_toldHere_42 : decode cX2_toldHere 42 = .ok (.bipush 48, 2) := dk_16 48 (dk_at dksX2_toldHere_1 19 rfl rfl)
theorem dX2_toldHere_44 : decode cX2_toldHere 44 = .ok (.isub, 1) := dk_100 (dk_at dksX2_toldHere_1 21 rfl rfl)
theorem dX2_toldHere_45 : decode cX2_toldHere 45 = .ok (.goto 4, 3) := dk_167 0 4 (dk_at dksX2_toldHere_2 0 rfl rfl)
theorem dX2_toldHere_48 : decode cX2_toldHere 48 = .ok (.iload_n 1, 1) := dk_27 (dk_at dksX2_toldHere_2 3 rfl rfl)
theorem dX2_toldHere_49 : decode cX2_toldHere 49 = .ok (.ireturn, 1) := dk_172 (dk_at dksX2_toldHere_2 4 rfl rfl)
abbrev cX2_readsPart : ByteArray := prog_12_method_34_code
def yX2_readsPart : MethodName := ⟨RX2, "readsPart", "()V"⟩
def dkwX2_readsPart_2 : List UInt8 := [167, 0, 23, 42, 18, 207, 182, 0, 154, 153, 0, 10, 42, 182, 0, 209, 167, 0, 7, 42, 182, 0, 212, 177]
abbrev dktX2_readsPart_2 : List UInt8 := dkwX2_readsPart_2 ++ []
def dkwX2_readsPart_1 : List UInt8 := [153, 0, 11, 42, 4, 182, 0, 158, 167, 0, 39, 42, 18, 202, 182, 0, 154, 153, 0, 10, 42, 182, 0, 204]
abbrev dktX2_readsPart_1 : List UInt8 := dkwX2_readsPart_1 ++ dktX2_readsPart_2
def dkwX2_readsPart_0 : List UInt8 := [42, 18, 195, 182, 0, 154, 153, 0, 10, 42, 182, 0, 197, 167, 0, 56, 42, 18, 200, 182, 0, 154]
abbrev dktX2_readsPart_0 : List UInt8 := dkwX2_readsPart_0 ++ dktX2_readsPart_1
theorem dksX2_readsPart_0 : cX2_readsPart.data.toList.drop 0 = dktX2_readsPart_0 := by decide +kernel
theorem dksX2_readsPart_1 : cX2_readsPart.data.toList.drop 22 = dktX2_readsPart_1 := dk_seg dksX2_readsPart_0 22 rfl rfl
theorem dksX2_readsPart_2 : cX2_readsPart.data.toList.drop 46 = dktX2_readsPart_2 := dk_seg dksX2_readsPart_1 24 rfl rfl
theorem dX2_readsPart_0 : decode cX2_readsPart 0 = .ok (.aload_n 0, 1) := dk_42 (dk_at dksX2_readsPart_0 0 rfl rfl)
theorem dX2_readsPart_1 : decode cX2_readsPart 1 = .ok (.ldc 195, 2) := dk_18 195 (dk_at dksX2_readsPart_0 1 rfl rfl)
theorem dX2_readsPart_3 : decode cX2_readsPart 3 = .ok (.invokevirtual 154, 3) := dk_182 0 154 (dk_at dksX2_readsPart_0 3 rfl rfl)
theorem dX2_readsPart_6 : decode cX2_readsPart 6 = .ok (.ifCond .eq 10, 3) := dk_153 0 10 (dk_at dksX2_readsPart_0 6 rfl rfl)
theorem dX2_readsPart_9 : decode cX2_readsPart 9 = .ok (.aload_n 0, 1) := dk_42 (dk_at dksX2_readsPart_0 9 rfl rfl)
theorem dX2_readsPart_10 : decode cX2_readsPart 10 = .ok (.invokevirtual 197, 3) := dk_182 0 197 (dk_at dksX2_readsPart_0 10 rfl rfl)
theorem dX2_readsPart_13 : decode cX2_readsPart 13 = .ok (.goto 56, 3) := dk_167 0 56 (dk_at dksX2_readsPart_0 13 rfl rfl)
theorem dX2_readsPart_16 : decode cX2_readsPart 16 = .ok (.aload_n 0, 1) := dk_42 (dk_at dksX2_readsPart_0 16 rfl rfl)
theorem dX2_readsPart_17 : decode cX2_readsPart 17 = .ok (.ldc 200, 2) := dk_18 200 (dk_at dksX2_readsPart_0 17 rfl rfl)
theorem dX2_readsPart_19 : decode cX2_readsPart 19 = .ok (.invokevirtual 154, 3) := dk_182 0 154 (dk_at dksX2_readsPart_0 19 rfl rfl)
theorem dX2_readsPart_22 : decode cX2_readsPart 22 = .ok (.ifCond .eq 11, 3) := dk_153 0 11 (dk_at dksX2_readsPart_1 0 rfl rfl)
theorem dX2_readsPart_25 : decode cX2_readsPart 25 = .ok (.aload_n 0, 1) := dk_42 (dk_at dksX2_readsPart_1 3 rfl rfl)
theorem dX2_readsPart_26 : decode cX2_readsPart 26 = .ok (.iconst 1, 1) := dk_4 (dk_at dksX2_readsPart_1 4 rfl rfl)
theorem dX2_readsPart_27 : decode cX2_readsPart 27 = .ok (.invokevirtual 158, 3) := dk_182 0 158 (dk_at dksX2_readsPart_1 5 rfl rfl)
theorem dX2_readsPart_30 : decode cX2_readsPart 30 = .ok (.goto 39, 3) := dk_167 0 39 (dk_at dksX2_readsPart_1 8 rfl rfl)
theorem dX2_readsPart_33 : decode cX2_readsPart 33 = .ok (.aload_n 0, 1) := dk_42 (dk_at dksX2_readsPart_1 11 rfl rfl)
theorem dX2_readsPart_34 : decode cX2_readsPart 34 = .ok (.ldc 202, 2) := dk_18 202 (dk_at dksX2_readsPart_1 12 rfl rfl)
theorem dX2_readsPart_36 : decode cX2_readsPart 36 = .ok (.invokevirtual 154, 3) := dk_182 0 154 (dk_at dksX2_readsPart_1 14 rfl rfl)
theorem dX2_readsPart_39 : decode cX2_readsPart 39 = .ok (.ifCond .eq 10, 3) := dk_153 0 10 (dk_at dksX2_readsPart_1 17 rfl rfl)
theorem dX2_readsPart_42 : decode cX2_readsPart 42 = .ok (.aload_n 0, 1) := dk_42 (dk_at dksX2_readsPart_1 20 rfl rfl)
theorem dX2_readsPart_43 : decode cX2_readsPart 43 = .ok (.invokevirtual 204, 3) := dk_182 0 204 (dk_at dksX2_readsPart_1 21 rfl rfl)
theorem dX2_readsPart_46 : decode cX2_readsPart 46 = .ok (.goto 23, 3) := dk_167 0 23 (dk_at dksX2_readsPart_2 0 rfl rfl)
theorem dX2_readsPart_49 : decode cX2_readsPart 49 = .ok (.aload_n 0, 1) := dk_42 (dk_at dksX2_readsPart_2 3 rfl rfl)
theorem dX2_readsPart_50 : decode cX2_readsPart 50 = .ok (.ldc 207, 2) := dk_18 207 (dk_at dksX2_readsPart_2 4 rfl rfl)
theorem dX2_readsPart_52 : decode cX2_readsPart 52 = .ok (.invokevirtual 154, 3) := dk_182 0 154 (dk_at dksX2_readsPart_2 6 rfl rfl)
theorem dX2_readsPart_55 : decode cX2_readsPart 55 = .ok (.ifCond .eq 10, 3) := dk_153 0 10 (dk_at dksX2_readsPart_2 9 rfl rfl)
theorem dX2_readsPart_58 : decode cX2_readsPart 58 = .ok (.aload_n 0, 1) := dk_42 (dk_at dksX2_readsPart_2 12 rfl rfl)
theorem dX2_readsPart_59 : decode cX2_readsPart 59 = .ok (.invokevirtual 209, 3) := dk_182 0 209 (dk_at dksX2_readsPart_2 13 rfl rfl)
theorem dX2_readsPart_62 : decode cX2_readsPart 62 = .ok (.goto 7, 3) := dk_167 0 7 (dk_at dksX2_readsPart_2 16 rfl rfl)
theorem dX2_readsPart_65 : decode cX2_readsPart 65 = .ok (.aload_n 0, 1) := dk_42 (dk_at dksX2_readsPart_2 19 rfl rfl)
theorem dX2_readsPart_66 : decode cX2_readsPart 66 = .ok (.invokevirtual 212, 3) := dk_182 0 212 (dk_at dksX2_readsPart_2 20 rfl rfl)
theorem dX2_readsPart_69 : decode cX2_readsPart 69 = .ok (.return_, 1) := dk_177 (dk_at dksX2_readsPart_2 23 rfl rfl)
abbrev cX2_readsStorm : ByteArray := prog_12_method_25_code
def yX2_readsStorm : MethodName := ⟨RX2, "readsStorm", "()V"⟩
def dkwX2_readsStorm_2 : List UInt8 := [54, 5, 42, 180, 0, 71, 154, 0, 17, 42, 27, 28, 29, 184, 0, 126, 21, 4, 21, 5, 182, 0, 130, 177]
abbrev dktX2_readsStorm_2 : List UInt8 := dkwX2_readsStorm_2 ++ []
def dkwX2_readsStorm_1 : List UInt8 := [61, 42, 3, 5, 182, 0, 123, 62, 42, 3, 16, 9, 182, 0, 123, 54, 4, 42, 3, 16, 9, 182, 0, 123]
abbrev dktX2_readsStorm_1 : List UInt8 := dkwX2_readsStorm_1 ++ dktX2_readsStorm_2
def dkwX2_readsStorm_0 : List UInt8 := [42, 182, 0, 120, 42, 3, 42, 180, 0, 9, 3, 46, 5, 100, 182, 0, 123, 60, 42, 3, 5, 182, 0, 123]
abbrev dktX2_readsStorm_0 : List UInt8 := dkwX2_readsStorm_0 ++ dktX2_readsStorm_1
theorem dksX2_readsStorm_0 : cX2_readsStorm.data.toList.drop 0 = dktX2_readsStorm_0 := by decide +kernel
theorem dksX2_readsStorm_1 : cX2_readsStorm.data.toList.drop 24 = dktX2_readsStorm_1 := dk_seg dksX2_readsStorm_0 24 rfl rfl
theorem dksX2_readsStorm_2 : cX2_readsStorm.data.toList.drop 48 = dktX2_readsStorm_2 := dk_seg dksX2_readsStorm_1 24 rfl rfl
theorem dX2_readsStorm_0 : decode cX2_readsStorm 0 = .ok (.aload_n 0, 1) := dk_42 (dk_at dksX2_readsStorm_0 0 rfl rfl)
theorem dX2_readsStorm_1 : decode cX2_readsStorm 1 = .ok (.invokevirtual 120, 3) := dk_182 0 120 (dk_at dksX2_readsStorm_0 1 rfl rfl)
theorem dX2_readsStorm_4 : decode cX2_readsStorm 4 = .ok (.aload_n 0, 1) := dk_42 (dk_at dksX2_readsStorm_0 4 rfl rfl)
theorem dX2_readsStorm_5 : decode cX2_readsStorm 5 = .ok (.iconst 0, 1) := dk_3 (dk_at dksX2_readsStorm_0 5 rfl rfl)
theorem dX2_readsStorm_6 : decode cX2_readsStorm 6 = .ok (.aload_n 0, 1) := dk_42 (dk_at dksX2_readsStorm_0 6 rfl rfl)
theorem dX2_readsStorm_7 : decode cX2_readsStorm 7 = .ok (.getfield 9, 3) := dk_180 0 9 (dk_at dksX2_readsStorm_0 7 rfl rfl)
theorem dX2_readsStorm_10 : decode cX2_readsStorm 10 = .ok (.iconst 0, 1) := dk_3 (dk_at dksX2_readsStorm_0 10 rfl rfl)
theorem dX2_readsStorm_11 : decode cX2_readsStorm 11 = .ok (.iaload, 1) := dk_46 (dk_at dksX2_readsStorm_0 11 rfl rfl)
theorem dX2_readsStorm_12 : decode cX2_readsStorm 12 = .ok (.iconst 2, 1) := dk_5 (dk_at dksX2_readsStorm_0 12 rfl rfl)
theorem dX2_readsStorm_13 : decode cX2_readsStorm 13 = .ok (.isub, 1) := dk_100 (dk_at dksX2_readsStorm_0 13 rfl rfl)
theorem dX2_readsStorm_14 : decode cX2_readsStorm 14 = .ok (.invokevirtual 123, 3) := dk_182 0 123 (dk_at dksX2_readsStorm_0 14 rfl rfl)
theorem dX2_readsStorm_17 : decode cX2_readsStorm 17 = .ok (.istore_n 1, 1) := dk_60 (dk_at dksX2_readsStorm_0 17 rfl rfl)
theorem dX2_readsStorm_18 : decode cX2_readsStorm 18 = .ok (.aload_n 0, 1) := dk_42 (dk_at dksX2_readsStorm_0 18 rfl rfl)
theorem dX2_readsStorm_19 : decode cX2_readsStorm 19 = .ok (.iconst 0, 1) := dk_3 (dk_at dksX2_readsStorm_0 19 rfl rfl)
theorem dX2_readsStorm_20 : decode cX2_readsStorm 20 = .ok (.iconst 2, 1) := dk_5 (dk_at dksX2_readsStorm_0 20 rfl rfl)
theorem dX2_readsStorm_21 : decode cX2_readsStorm 21 = .ok (.invokevirtual 123, 3) := dk_182 0 123 (dk_at dksX2_readsStorm_0 21 rfl rfl)
theorem dX2_readsStorm_24 : decode cX2_readsStorm 24 = .ok (.istore_n 2, 1) := dk_61 (dk_at dksX2_readsStorm_1 0 rfl rfl)
theorem dX2_readsStorm_25 : decode cX2_readsStorm 25 = .ok (.aload_n 0, 1) := dk_42 (dk_at dksX2_readsStorm_1 1 rfl rfl)
theorem dX2_readsStorm_26 : decode cX2_readsStorm 26 = .ok (.iconst 0, 1) := dk_3 (dk_at dksX2_readsStorm_1 2 rfl rfl)
theorem dX2_readsStorm_27 : decode cX2_readsStorm 27 = .ok (.iconst 2, 1) := dk_5 (dk_at dksX2_readsStorm_1 3 rfl rfl)
theorem dX2_readsStorm_28 : decode cX2_readsStorm 28 = .ok (.invokevirtual 123, 3) := dk_182 0 123 (dk_at dksX2_readsStorm_1 4 rfl rfl)
theorem dX2_readsStorm_31 : decode cX2_readsStorm 31 = .ok (.istore_n 3, 1) := dk_62 (dk_at dksX2_readsStorm_1 7 rfl rfl)
theorem dX2_readsStorm_32 : decode cX2_readsStorm 32 = .ok (.aload_n 0, 1) := dk_42 (dk_at dksX2_readsStorm_1 8 rfl rfl)
theorem dX2_readsStorm_33 : decode cX2_readsStorm 33 = .ok (.iconst 0, 1) := dk_3 (dk_at dksX2_readsStorm_1 9 rfl rfl)
theorem dX2_readsStorm_34 : decode cX2_readsStorm 34 = .ok (.bipush 9, 2) := dk_16 9 (dk_at dksX2_readsStorm_1 10 rfl rfl)
theorem dX2_readsStorm_36 : decode cX2_readsStorm 36 = .ok (.invokevirtual 123, 3) := dk_182 0 123 (dk_at dksX2_readsStorm_1 12 rfl rfl)
theorem dX2_readsStorm_39 : decode cX2_readsStorm 39 = .ok (.istore 4, 2) := dk_54 4 (dk_at dksX2_readsStorm_1 15 rfl rfl)
theorem dX2_readsStorm_41 : decode cX2_readsStorm 41 = .ok (.aload_n 0, 1) := dk_42 (dk_at dksX2_readsStorm_1 17 rfl rfl)
theorem dX2_readsStorm_42 : decode cX2_readsStorm 42 = .ok (.iconst 0, 1) := dk_3 (dk_at dksX2_readsStorm_1 18 rfl rfl)
theorem dX2_readsStorm_43 : decode cX2_readsStorm 43 = .ok (.bipush 9, 2) := dk_16 9 (dk_at dksX2_readsStorm_1 19 rfl rfl)
theorem dX2_readsStorm_45 : decode cX2_readsStorm 45 = .ok (.invokevirtual 123, 3) := dk_182 0 123 (dk_at dksX2_readsStorm_1 21 rfl rfl)
theorem dX2_readsStorm_48 : decode cX2_readsStorm 48 = .ok (.istore 5, 2) := dk_54 5 (dk_at dksX2_readsStorm_2 0 rfl rfl)
theorem dX2_readsStorm_50 : decode cX2_readsStorm 50 = .ok (.aload_n 0, 1) := dk_42 (dk_at dksX2_readsStorm_2 2 rfl rfl)
theorem dX2_readsStorm_51 : decode cX2_readsStorm 51 = .ok (.getfield 71, 3) := dk_180 0 71 (dk_at dksX2_readsStorm_2 3 rfl rfl)
theorem dX2_readsStorm_54 : decode cX2_readsStorm 54 = .ok (.ifCond .ne 17, 3) := dk_154 0 17 (dk_at dksX2_readsStorm_2 6 rfl rfl)
theorem dX2_readsStorm_57 : decode cX2_readsStorm 57 = .ok (.aload_n 0, 1) := dk_42 (dk_at dksX2_readsStorm_2 9 rfl rfl)
theorem dX2_readsStorm_58 : decode cX2_readsStorm 58 = .ok (.iload_n 1, 1) := dk_27 (dk_at dksX2_readsStorm_2 10 rfl rfl)
theorem dX2_readsStorm_59 : decode cX2_readsStorm 59 = .ok (.iload_n 2, 1) := dk_28 (dk_at dksX2_readsStorm_2 11 rfl rfl)
theorem dX2_readsStorm_60 : decode cX2_readsStorm 60 = .ok (.iload_n 3, 1) := dk_29 (dk_at dksX2_readsStorm_2 12 rfl rfl)
theorem dX2_readsStorm_61 : decode cX2_readsStorm 61 = .ok (.invokestatic 126, 3) := dk_184 0 126 (dk_at dksX2_readsStorm_2 13 rfl rfl)
theorem dX2_readsStorm_64 : decode cX2_readsStorm 64 = .ok (.iload 4, 2) := dk_21 4 (dk_at dksX2_readsStorm_2 16 rfl rfl)
theorem dX2_readsStorm_66 : decode cX2_readsStorm 66 = .ok (.iload 5, 2) := dk_21 5 (dk_at dksX2_readsStorm_2 18 rfl rfl)
theorem dX2_readsStorm_68 : decode cX2_readsStorm 68 = .ok (.invokevirtual 130, 3) := dk_182 0 130 (dk_at dksX2_readsStorm_2 20 rfl rfl)
theorem dX2_readsStorm_71 : decode cX2_readsStorm 71 = .ok (.return_, 1) := dk_177 (dk_at dksX2_readsStorm_2 23 rfl rfl)
abbrev cX2_wireOf : ByteArray := prog_12_method_37_code
def yX2_wireOf : MethodName := ⟨RX2, "wireOf", "(III)I"⟩
def dkwX2_wireOf_0 : List UInt8 := [16, 9, 26, 104, 6, 27, 104, 96, 28, 96, 172]
abbrev dktX2_wireOf_0 : List UInt8 := dkwX2_wireOf_0 ++ []
theorem dksX2_wireOf_0 : cX2_wireOf.data.toList.drop 0 = dktX2_wireOf_0 := by decide +kernel
theorem dX2_wireOf_0 : decode cX2_wireOf 0 = .ok (.bipush 9, 2) := dk_16 9 (dk_at dksX2_wireOf_0 0 rfl rfl)
theorem dX2_wireOf_2 : decode cX2_wireOf 2 = .ok (.iload_n 0, 1) := dk_26 (dk_at dksX2_wireOf_0 2 rfl rfl)
theorem dX2_wireOf_3 : decode cX2_wireOf 3 = .ok (.imul, 1) := dk_104 (dk_at dksX2_wireOf_0 3 rfl rfl)
theorem dX2_wireOf_4 : decode cX2_wireOf 4 = .ok (.iconst 3, 1) := dk_6 (dk_at dksX2_wireOf_0 4 rfl rfl)
theorem dX2_wireOf_5 : decode cX2_wireOf 5 = .ok (.iload_n 1, 1) := dk_27 (dk_at dksX2_wireOf_0 5 rfl rfl)
theorem dX2_wireOf_6 : decode cX2_wireOf 6 = .ok (.imul, 1) := dk_104 (dk_at dksX2_wireOf_0 6 rfl rfl)
theorem dX2_wireOf_7 : decode cX2_wireOf 7 = .ok (.iadd, 1) := dk_96 (dk_at dksX2_wireOf_0 7 rfl rfl)
theorem dX2_wireOf_8 : decode cX2_wireOf 8 = .ok (.iload_n 2, 1) := dk_28 (dk_at dksX2_wireOf_0 8 rfl rfl)
theorem dX2_wireOf_9 : decode cX2_wireOf 9 = .ok (.iadd, 1) := dk_96 (dk_at dksX2_wireOf_0 9 rfl rfl)
theorem dX2_wireOf_10 : decode cX2_wireOf 10 = .ok (.ireturn, 1) := dk_172 (dk_at dksX2_wireOf_0 10 rfl rfl)
abbrev cX2_storms : ByteArray := prog_12_method_40_code
def yX2_storms : MethodName := ⟨RX2, "storms", "(III)V"⟩
def dkwX2_storms_0 : List UInt8 := [42, 27, 3, 28, 182, 0, 137, 42, 27, 4, 29, 182, 0, 137, 177]
abbrev dktX2_storms_0 : List UInt8 := dkwX2_storms_0 ++ []
theorem dksX2_storms_0 : cX2_storms.data.toList.drop 0 = dktX2_storms_0 := by decide +kernel
theorem dX2_storms_0 : decode cX2_storms 0 = .ok (.aload_n 0, 1) := dk_42 (dk_at dksX2_storms_0 0 rfl rfl)
theorem dX2_storms_1 : decode cX2_storms 1 = .ok (.iload_n 1, 1) := dk_27 (dk_at dksX2_storms_0 1 rfl rfl)
theorem dX2_storms_2 : decode cX2_storms 2 = .ok (.iconst 0, 1) := dk_3 (dk_at dksX2_storms_0 2 rfl rfl)
theorem dX2_storms_3 : decode cX2_storms 3 = .ok (.iload_n 2, 1) := dk_28 (dk_at dksX2_storms_0 3 rfl rfl)
theorem dX2_storms_4 : decode cX2_storms 4 = .ok (.invokevirtual 137, 3) := dk_182 0 137 (dk_at dksX2_storms_0 4 rfl rfl)
theorem dX2_storms_7 : decode cX2_storms 7 = .ok (.aload_n 0, 1) := dk_42 (dk_at dksX2_storms_0 7 rfl rfl)
theorem dX2_storms_8 : decode cX2_storms 8 = .ok (.iload_n 1, 1) := dk_27 (dk_at dksX2_storms_0 8 rfl rfl)
theorem dX2_storms_9 : decode cX2_storms 9 = .ok (.iconst 1, 1) := dk_4 (dk_at dksX2_storms_0 9 rfl rfl)
theorem dX2_storms_10 : decode cX2_storms 10 = .ok (.iload_n 3, 1) := dk_29 (dk_at dksX2_storms_0 10 rfl rfl)
theorem dX2_storms_11 : decode cX2_storms 11 = .ok (.invokevirtual 137, 3) := dk_182 0 137 (dk_at dksX2_storms_0 11 rfl rfl)
theorem dX2_storms_14 : decode cX2_storms 14 = .ok (.return_, 1) := dk_177 (dk_at dksX2_storms_0 14 rfl rfl)
abbrev cX2_putsWire : ByteArray := prog_12_method_39_code
def yX2_putsWire : MethodName := ⟨RX2, "putsWire", "(III)V"⟩
def dkwX2_putsWire_0 : List UInt8 := [42, 180, 0, 9, 16, 9, 8, 27, 104, 96, 28, 96, 29, 79, 177]
abbrev dktX2_putsWire_0 : List UInt8 := dkwX2_putsWire_0 ++ []
theorem dksX2_putsWire_0 : cX2_putsWire.data.toList.drop 0 = dktX2_putsWire_0 := by decide +kernel
theorem dX2_putsWire_0 : decode cX2_putsWire 0 = .ok (.aload_n 0, 1) := dk_42 (dk_at dksX2_putsWire_0 0 rfl rfl)
theorem dX2_putsWire_1 : decode cX2_putsWire 1 = .ok (.getfield 9, 3) := dk_180 0 9 (dk_at dksX2_putsWire_0 1 rfl rfl)
theorem dX2_putsWire_4 : decode cX2_putsWire 4 = .ok (.bipush 9, 2) := dk_16 9 (dk_at dksX2_putsWire_0 4 rfl rfl)
theorem dX2_putsWire_6 : decode cX2_putsWire 6 = .ok (.iconst 5, 1) := dk_8 (dk_at dksX2_putsWire_0 6 rfl rfl)
theorem dX2_putsWire_7 : decode cX2_putsWire 7 = .ok (.iload_n 1, 1) := dk_27 (dk_at dksX2_putsWire_0 7 rfl rfl)
theorem dX2_putsWire_8 : decode cX2_putsWire 8 = .ok (.imul, 1) := dk_104 (dk_at dksX2_putsWire_0 8 rfl rfl)
theorem dX2_putsWire_9 : decode cX2_putsWire 9 = .ok (.iadd, 1) := dk_96 (dk_at dksX2_putsWire_0 9 rfl rfl)
theorem dX2_putsWire_10 : decode cX2_putsWire 10 = .ok (.iload_n 2, 1) := dk_28 (dk_at dksX2_putsWire_0 10 rfl rfl)
theorem dX2_putsWire_11 : decode cX2_putsWire 11 = .ok (.iadd, 1) := dk_96 (dk_at dksX2_putsWire_0 11 rfl rfl)
theorem dX2_putsWire_12 : decode cX2_putsWire 12 = .ok (.iload_n 3, 1) := dk_29 (dk_at dksX2_putsWire_0 12 rfl rfl)
theorem dX2_putsWire_13 : decode cX2_putsWire 13 = .ok (.iastore, 1) := dk_79 (dk_at dksX2_putsWire_0 13 rfl rfl)
theorem dX2_putsWire_14 : decode cX2_putsWire 14 = .ok (.return_, 1) := dk_177 (dk_at dksX2_putsWire_0 14 rfl rfl)
abbrev cX2_readsCut : ByteArray := prog_12_method_26_code
def yX2_readsCut : MethodName := ⟨RX2, "readsCut", "(I)V"⟩
def dkwX2_readsCut_3 : List UInt8 := [21, 4, 184, 0, 126, 5, 27, 182, 0, 137, 42, 182, 0, 120, 177]
abbrev dktX2_readsCut_3 : List UInt8 := dkwX2_readsCut_3 ++ []
def dkwX2_readsCut_2 : List UInt8 := [5, 182, 0, 134, 27, 160, 0, 8, 42, 6, 182, 0, 110, 42, 180, 0, 71, 154, 0, 16, 42, 28, 29]
abbrev dktX2_readsCut_2 : List UInt8 := dkwX2_readsCut_2 ++ dktX2_readsCut_3
def dkwX2_readsCut_1 : List UInt8 := [62, 42, 3, 5, 182, 0, 116, 54, 4, 42, 180, 0, 71, 154, 0, 24, 42, 28, 29, 21, 4, 184, 0, 126]
abbrev dktX2_readsCut_1 : List UInt8 := dkwX2_readsCut_1 ++ dktX2_readsCut_2
def dkwX2_readsCut_0 : List UInt8 := [42, 182, 0, 120, 42, 3, 42, 180, 0, 9, 3, 46, 5, 100, 182, 0, 123, 61, 42, 3, 5, 182, 0, 123]
abbrev dktX2_readsCut_0 : List UInt8 := dkwX2_readsCut_0 ++ dktX2_readsCut_1
theorem dksX2_readsCut_0 : cX2_readsCut.data.toList.drop 0 = dktX2_readsCut_0 := by decide +kernel
theorem dksX2_readsCut_1 : cX2_readsCut.data.toList.drop 24 = dktX2_readsCut_1 := dk_seg dksX2_readsCut_0 24 rfl rfl
theorem dksX2_readsCut_2 : cX2_readsCut.data.toList.drop 48 = dktX2_readsCut_2 := dk_seg dksX2_readsCut_1 24 rfl rfl
theorem dksX2_readsCut_3 : cX2_readsCut.data.toList.drop 71 = dktX2_readsCut_3 := dk_seg dksX2_readsCut_2 23 rfl rfl
theorem dX2_readsCut_0 : decode cX2_readsCut 0 = .ok (.aload_n 0, 1) := dk_42 (dk_at dksX2_readsCut_0 0 rfl rfl)
theorem dX2_readsCut_1 : decode cX2_readsCut 1 = .ok (.invokevirtual 120, 3) := dk_182 0 120 (dk_at dksX2_readsCut_0 1 rfl rfl)
theorem dX2_readsCut_4 : decode cX2_readsCut 4 = .ok (.aload_n 0, 1) := dk_42 (dk_at dksX2_readsCut_0 4 rfl rfl)
theorem dX2_readsCut_5 : decode cX2_readsCut 5 = .ok (.iconst 0, 1) := dk_3 (dk_at dksX2_readsCut_0 5 rfl rfl)
theorem dX2_readsCut_6 : decode cX2_readsCut 6 = .ok (.aload_n 0, 1) := dk_42 (dk_at dksX2_readsCut_0 6 rfl rfl)
theorem dX2_readsCut_7 : decode cX2_readsCut 7 = .ok (.getfield 9, 3) := dk_180 0 9 (dk_at dksX2_readsCut_0 7 rfl rfl)
theorem dX2_readsCut_10 : decode cX2_readsCut 10 = .ok (.iconst 0, 1) := dk_3 (dk_at dksX2_readsCut_0 10 rfl rfl)
theorem dX2_readsCut_11 : decode cX2_readsCut 11 = .ok (.iaload, 1) := dk_46 (dk_at dksX2_readsCut_0 11 rfl rfl)
theorem dX2_readsCut_12 : decode cX2_readsCut 12 = .ok (.iconst 2, 1) := dk_5 (dk_at dksX2_readsCut_0 12 rfl rfl)
theorem dX2_readsCut_13 : decode cX2_readsCut 13 = .ok (.isub, 1) := dk_100 (dk_at dksX2_readsCut_0 13 rfl rfl)
theorem dX2_readsCut_14 : decode cX2_readsCut 14 = .ok (.invokevirtual 123, 3) := dk_182 0 123 (dk_at dksX2_readsCut_0 14 rfl rfl)
theorem dX2_readsCut_17 : decode cX2_readsCut 17 = .ok (.istore_n 2, 1) := dk_61 (dk_at dksX2_readsCut_0 17 rfl rfl)
theorem dX2_readsCut_18 : decode cX2_readsCut 18 = .ok (.aload_n 0, 1) := dk_42 (dk_at dksX2_readsCut_0 18 rfl rfl)
theorem dX2_readsCut_19 : decode cX2_readsCut 19 = .ok (.iconst 0, 1) := dk_3 (dk_at dksX2_readsCut_0 19 rfl rfl)
theorem dX2_readsCut_20 : decode cX2_readsCut 20 = .ok (.iconst 2, 1) := dk_5 (dk_at dksX2_readsCut_0 20 rfl rfl)
theorem dX2_readsCut_21 : decode cX2_readsCut 21 = .ok (.invokevirtual 123, 3) := dk_182 0 123 (dk_at dksX2_readsCut_0 21 rfl rfl)
theorem dX2_readsCut_24 : decode cX2_readsCut 24 = .ok (.istore_n 3, 1) := dk_62 (dk_at dksX2_readsCut_1 0 rfl rfl)
theorem dX2_readsCut_25 : decode cX2_readsCut 25 = .ok (.aload_n 0, 1) := dk_42 (dk_at dksX2_readsCut_1 1 rfl rfl)
theorem dX2_readsCut_26 : decode cX2_readsCut 26 = .ok (.iconst 0, 1) := dk_3 (dk_at dksX2_readsCut_1 2 rfl rfl)
theorem dX2_readsCut_27 : decode cX2_readsCut 27 = .ok (.iconst 2, 1) := dk_5 (dk_at dksX2_readsCut_1 3 rfl rfl)
theorem dX2_readsCut_28 : decode cX2_readsCut 28 = .ok (.invokevirtual 116, 3) := dk_182 0 116 (dk_at dksX2_readsCut_1 4 rfl rfl)
theorem dX2_readsCut_31 : decode cX2_readsCut 31 = .ok (.istore 4, 2) := dk_54 4 (dk_at dksX2_readsCut_1 7 rfl rfl)
theorem dX2_readsCut_33 : decode cX2_readsCut 33 = .ok (.aload_n 0, 1) := dk_42 (dk_at dksX2_readsCut_1 9 rfl rfl)
theorem dX2_readsCut_34 : decode cX2_readsCut 34 = .ok (.getfield 71, 3) := dk_180 0 71 (dk_at dksX2_readsCut_1 10 rfl rfl)
theorem dX2_readsCut_37 : decode cX2_readsCut 37 = .ok (.ifCond .ne 24, 3) := dk_154 0 24 (dk_at dksX2_readsCut_1 13 rfl rfl)
theorem dX2_readsCut_40 : decode cX2_readsCut 40 = .ok (.aload_n 0, 1) := dk_42 (dk_at dksX2_readsCut_1 16 rfl rfl)
theorem dX2_readsCut_41 : decode cX2_readsCut 41 = .ok (.iload_n 2, 1) := dk_28 (dk_at dksX2_readsCut_1 17 rfl rfl)
theorem dX2_readsCut_42 : decode cX2_readsCut 42 = .ok (.iload_n 3, 1) := dk_29 (dk_at dksX2_readsCut_1 18 rfl rfl)
theorem dX2_readsCut_43 : decode cX2_readsCut 43 = .ok (.iload 4, 2) := dk_21 4 (dk_at dksX2_readsCut_1 19 rfl rfl)
theorem dX2_readsCut_45 : decode cX2_readsCut 45 = .ok (.invokestatic 126, 3) := dk_184 0 126 (dk_at dksX2_readsCut_1 21 rfl rfl)
theorem dX2_readsCut_48 : decode cX2_readsCut 48 = .ok (.iconst 2, 1) := dk_5 (dk_at dksX2_readsCut_2 0 rfl rfl)
theorem dX2_readsCut_49 : decode cX2_readsCut 49 = .ok (.invokevirtual 134, 3) := dk_182 0 134 (dk_at dksX2_readsCut_2 1 rfl rfl)
theorem dX2_readsCut_52 : decode cX2_readsCut 52 = .ok (.iload_n 1, 1) := dk_27 (dk_at dksX2_readsCut_2 4 rfl rfl)
theorem dX2_readsCut_53 : decode cX2_readsCut 53 = .ok (.if_icmp .ne 8, 3) := dk_160 0 8 (dk_at dksX2_readsCut_2 5 rfl rfl)
theorem dX2_readsCut_56 : decode cX2_readsCut 56 = .ok (.aload_n 0, 1) := dk_42 (dk_at dksX2_readsCut_2 8 rfl rfl)
theorem dX2_readsCut_57 : decode cX2_readsCut 57 = .ok (.iconst 3, 1) := dk_6 (dk_at dksX2_readsCut_2 9 rfl rfl)
theorem dX2_readsCut_58 : decode cX2_readsCut 58 = .ok (.invokevirtual 110, 3) := dk_182 0 110 (dk_at dksX2_readsCut_2 10 rfl rfl)
theorem dX2_readsCut_61 : decode cX2_readsCut 61 = .ok (.aload_n 0, 1) := dk_42 (dk_at dksX2_readsCut_2 13 rfl rfl)
theorem dX2_readsCut_62 : decode cX2_readsCut 62 = .ok (.getfield 71, 3) := dk_180 0 71 (dk_at dksX2_readsCut_2 14 rfl rfl)
theorem dX2_readsCut_65 : decode cX2_readsCut 65 = .ok (.ifCond .ne 16, 3) := dk_154 0 16 (dk_at dksX2_readsCut_2 17 rfl rfl)
theorem dX2_readsCut_68 : decode cX2_readsCut 68 = .ok (.aload_n 0, 1) := dk_42 (dk_at dksX2_readsCut_2 20 rfl rfl)
theorem dX2_readsCut_69 : decode cX2_readsCut 69 = .ok (.iload_n 2, 1) := dk_28 (dk_at dksX2_readsCut_2 21 rfl rfl)
theorem dX2_readsCut_70 : decode cX2_readsCut 70 = .ok (.iload_n 3, 1) := dk_29 (dk_at dksX2_readsCut_2 22 rfl rfl)
theorem dX2_readsCut_71 : decode cX2_readsCut 71 = .ok (.iload 4, 2) := dk_21 4 (dk_at dksX2_readsCut_3 0 rfl rfl)
theorem dX2_readsCut_73 : decode cX2_readsCut 73 = .ok (.invokestatic 126, 3) := dk_184 0 126 (dk_at dksX2_readsCut_3 2 rfl rfl)
theorem dX2_readsCut_76 : decode cX2_readsCut 76 = .ok (.iconst 2, 1) := dk_5 (dk_at dksX2_readsCut_3 5 rfl rfl)
theorem dX2_readsCut_77 : decode cX2_readsCut 77 = .ok (.iload_n 1, 1) := dk_27 (dk_at dksX2_readsCut_3 6 rfl rfl)
theorem dX2_readsCut_78 : decode cX2_readsCut 78 = .ok (.invokevirtual 137, 3) := dk_182 0 137 (dk_at dksX2_readsCut_3 7 rfl rfl)
theorem dX2_readsCut_81 : decode cX2_readsCut 81 = .ok (.aload_n 0, 1) := dk_42 (dk_at dksX2_readsCut_3 10 rfl rfl)
theorem dX2_readsCut_82 : decode cX2_readsCut 82 = .ok (.invokevirtual 120, 3) := dk_182 0 120 (dk_at dksX2_readsCut_3 11 rfl rfl)
theorem dX2_readsCut_85 : decode cX2_readsCut 85 = .ok (.return_, 1) := dk_177 (dk_at dksX2_readsCut_3 14 rfl rfl)
abbrev cX2_ofWire : ByteArray := prog_12_method_38_code
def yX2_ofWire : MethodName := ⟨RX2, "ofWire", "(II)I"⟩
def dkwX2_ofWire_0 : List UInt8 := [42, 180, 0, 9, 16, 9, 8, 27, 104, 96, 28, 96, 46, 172]
abbrev dktX2_ofWire_0 : List UInt8 := dkwX2_ofWire_0 ++ []
theorem dksX2_ofWire_0 : cX2_ofWire.data.toList.drop 0 = dktX2_ofWire_0 := by decide +kernel
theorem dX2_ofWire_0 : decode cX2_ofWire 0 = .ok (.aload_n 0, 1) := dk_42 (dk_at dksX2_ofWire_0 0 rfl rfl)
theorem dX2_ofWire_1 : decode cX2_ofWire 1 = .ok (.getfield 9, 3) := dk_180 0 9 (dk_at dksX2_ofWire_0 1 rfl rfl)
theorem dX2_ofWire_4 : decode cX2_ofWire 4 = .ok (.bipush 9, 2) := dk_16 9 (dk_at dksX2_ofWire_0 4 rfl rfl)
theorem dX2_ofWire_6 : decode cX2_ofWire 6 = .ok (.iconst 5, 1) := dk_8 (dk_at dksX2_ofWire_0 6 rfl rfl)
theorem dX2_ofWire_7 : decode cX2_ofWire 7 = .ok (.iload_n 1, 1) := dk_27 (dk_at dksX2_ofWire_0 7 rfl rfl)
theorem dX2_ofWire_8 : decode cX2_ofWire 8 = .ok (.imul, 1) := dk_104 (dk_at dksX2_ofWire_0 8 rfl rfl)
theorem dX2_ofWire_9 : decode cX2_ofWire 9 = .ok (.iadd, 1) := dk_96 (dk_at dksX2_ofWire_0 9 rfl rfl)
theorem dX2_ofWire_10 : decode cX2_ofWire 10 = .ok (.iload_n 2, 1) := dk_28 (dk_at dksX2_ofWire_0 10 rfl rfl)
theorem dX2_ofWire_11 : decode cX2_ofWire 11 = .ok (.iadd, 1) := dk_96 (dk_at dksX2_ofWire_0 11 rfl rfl)
theorem dX2_ofWire_12 : decode cX2_ofWire 12 = .ok (.iaload, 1) := dk_46 (dk_at dksX2_ofWire_0 12 rfl rfl)
theorem dX2_ofWire_13 : decode cX2_ofWire 13 = .ok (.ireturn, 1) := dk_172 (dk_at dksX2_ofWire_0 13 rfl rfl)
abbrev cX2_readsSend : ByteArray := prog_12_method_32_code
def yX2_readsSend : MethodName := ⟨RX2, "readsSend", "()V"⟩
def dkwX2_readsSend_4 : List UInt8 := [167, 255, 220, 42, 3, 27, 182, 0, 188, 42, 182, 0, 120, 177]
abbrev dktX2_readsSend_4 : List UInt8 := dkwX2_readsSend_4 ++ []
def dkwX2_readsSend_3 : List UInt8 := [42, 27, 28, 42, 180, 0, 26, 42, 180, 0, 84, 28, 96, 51, 16, 48, 100, 182, 0, 185, 132, 2, 1]
abbrev dktX2_readsSend_3 : List UInt8 := dkwX2_readsSend_3 ++ dktX2_readsSend_4
def dkwX2_readsSend_2 : List UInt8 := [42, 180, 0, 84, 100, 182, 0, 181, 60, 3, 61, 28, 42, 180, 0, 81, 42, 180, 0, 84, 100, 162, 0, 29]
abbrev dktX2_readsSend_2 : List UInt8 := dkwX2_readsSend_2 ++ dktX2_readsSend_3
def dkwX2_readsSend_1 : List UInt8 := [182, 0, 97, 154, 0, 8, 42, 4, 182, 0, 110, 42, 180, 0, 71, 158, 0, 4, 177, 42, 42, 180, 0, 81]
abbrev dktX2_readsSend_1 : List UInt8 := dkwX2_readsSend_1 ++ dktX2_readsSend_2
def dkwX2_readsSend_0 : List UInt8 := [42, 180, 0, 9, 6, 46, 16, 6, 160, 0, 8, 42, 6, 182, 0, 110, 42, 182, 0, 120, 42, 6]
abbrev dktX2_readsSend_0 : List UInt8 := dkwX2_readsSend_0 ++ dktX2_readsSend_1
theorem dksX2_readsSend_0 : cX2_readsSend.data.toList.drop 0 = dktX2_readsSend_0 := by decide +kernel
theorem dksX2_readsSend_1 : cX2_readsSend.data.toList.drop 22 = dktX2_readsSend_1 := dk_seg dksX2_readsSend_0 22 rfl rfl
theorem dksX2_readsSend_2 : cX2_readsSend.data.toList.drop 46 = dktX2_readsSend_2 := dk_seg dksX2_readsSend_1 24 rfl rfl
theorem dksX2_readsSend_3 : cX2_readsSend.data.toList.drop 70 = dktX2_readsSend_3 := dk_seg dksX2_readsSend_2 24 rfl rfl
theorem dksX2_readsSend_4 : cX2_readsSend.data.toList.drop 93 = dktX2_readsSend_4 := dk_seg dksX2_readsSend_3 23 rfl rfl
theorem dX2_readsSend_0 : decode cX2_readsSend 0 = .ok (.aload_n 0, 1) := dk_42 (dk_at dksX2_readsSend_0 0 rfl rfl)
theorem dX2_readsSend_1 : decode cX2_readsSend 1 = .ok (.getfield 9, 3) := dk_180 0 9 (dk_at dksX2_readsSend_0 1 rfl rfl)
theorem dX2_readsSend_4 : decode cX2_readsSend 4 = .ok (.iconst 3, 1) := dk_6 (dk_at dksX2_readsSend_0 4 rfl rfl)
theorem dX2_readsSend_5 : decode cX2_readsSend 5 = .ok (.iaload, 1) := dk_46 (dk_at dksX2_readsSend_0 5 rfl rfl)
theorem dX2_readsSend_6 : decode cX2_readsSend 6 = .ok (.bipush 6, 2) := dk_16 6 (dk_at dksX2_readsSend_0 6 rfl rfl)
theorem dX2_readsSend_8 : decode cX2_readsSend 8 = .ok (.if_icmp .ne 8, 3) := dk_160 0 8 (dk_at dksX2_readsSend_0 8 rfl rfl)
theorem dX2_readsSend_11 : decode cX2_readsSend 11 = .ok (.aload_n 0, 1) := dk_42 (dk_at dksX2_readsSend_0 11 rfl rfl)
theorem dX2_readsSend_12 : decode cX2_readsSend 12 = .ok (.iconst 3, 1) := dk_6 (dk_at dksX2_readsSend_0 12 rfl rfl)
theorem dX2_readsSend_13 : decode cX2_readsSend 13 = .ok (.invokevirtual 110, 3) := dk_182 0 110 (dk_at dksX2_readsSend_0 13 rfl rfl)
theorem dX2_readsSend_16 : decode cX2_readsSend 16 = .ok (.aload_n 0, 1) := dk_42 (dk_at dksX2_readsSend_0 16 rfl rfl)
theorem dX2_readsSend_17 : decode cX2_readsSend 17 = .ok (.invokevirtual 120, 3) := dk_182 0 120 (dk_at dksX2_readsSend_0 17 rfl rfl)
theorem dX2_readsSend_20 : decode cX2_readsSend 20 = .ok (.aload_n 0, 1) := dk_42 (dk_at dksX2_readsSend_0 20 rfl rfl)
theorem dX2_readsSend_21 : decode cX2_readsSend 21 = .ok (.iconst 3, 1) := dk_6 (dk_at dksX2_readsSend_0 21 rfl rfl)
theorem dX2_readsSend_22 : decode cX2_readsSend 22 = .ok (.invokevirtual 97, 3) := dk_182 0 97 (dk_at dksX2_readsSend_1 0 rfl rfl)
theorem dX2_readsSend_25 : decode cX2_readsSend 25 = .ok (.ifCond .ne 8, 3) := dk_154 0 8 (dk_at dksX2_readsSend_1 3 rfl rfl)
theorem dX2_readsSend_28 : decode cX2_readsSend 28 = .ok (.aload_n 0, 1) := dk_42 (dk_at dksX2_readsSend_1 6 rfl rfl)
theorem dX2_readsSend_29 : decode cX2_readsSend 29 = .ok (.iconst 1, 1) := dk_4 (dk_at dksX2_readsSend_1 7 rfl rfl)
theorem dX2_readsSend_30 : decode cX2_readsSend 30 = .ok (.invokevirtual 110, 3) := dk_182 0 110 (dk_at dksX2_readsSend_1 8 rfl rfl)
theorem dX2_readsSend_33 : decode cX2_readsSend 33 = .ok (.aload_n 0, 1) := dk_42 (dk_at dksX2_readsSend_1 11 rfl rfl)
theorem dX2_readsSend_34 : decode cX2_readsSend 34 = .ok (.getfield 71, 3) := dk_180 0 71 (dk_at dksX2_readsSend_1 12 rfl rfl)
theorem dX2_readsSend_37 : decode cX2_readsSend 37 = .ok (.ifCond .le 4, 3) := dk_158 0 4 (dk_at dksX2_readsSend_1 15 rfl rfl)
theorem dX2_readsSend_40 : decode cX2_readsSend 40 = .ok (.return_, 1) := dk_177 (dk_at dksX2_readsSend_1 18 rfl rfl)
theorem dX2_readsSend_41 : decode cX2_readsSend 41 = .ok (.aload_n 0, 1) := dk_42 (dk_at dksX2_readsSend_1 19 rfl rfl)
theorem dX2_readsSend_42 : decode cX2_readsSend 42 = .ok (.aload_n 0, 1) := dk_42 (dk_at dksX2_readsSend_1 20 rfl rfl)
theorem dX2_readsSend_43 : decode cX2_readsSend 43 = .ok (.getfield 81, 3) := dk_180 0 81 (dk_at dksX2_readsSend_1 21 rfl rfl)
theorem dX2_readsSend_46 : decode cX2_readsSend 46 = .ok (.aload_n 0, 1) := dk_42 (dk_at dksX2_readsSend_2 0 rfl rfl)
theorem dX2_readsSend_47 : decode cX2_readsSend 47 = .ok (.getfield 84, 3) := dk_180 0 84 (dk_at dksX2_readsSend_2 1 rfl rfl)
theorem dX2_readsSend_50 : decode cX2_readsSend 50 = .ok (.isub, 1) := dk_100 (dk_at dksX2_readsSend_2 4 rfl rfl)
theorem dX2_readsSend_51 : decode cX2_readsSend 51 = .ok (.invokevirtual 181, 3) := dk_182 0 181 (dk_at dksX2_readsSend_2 5 rfl rfl)
theorem dX2_readsSend_54 : decode cX2_readsSend 54 = .ok (.istore_n 1, 1) := dk_60 (dk_at dksX2_readsSend_2 8 rfl rfl)
theorem dX2_readsSend_55 : decode cX2_readsSend 55 = .ok (.iconst 0, 1) := dk_3 (dk_at dksX2_readsSend_2 9 rfl rfl)
theorem dX2_readsSend_56 : decode cX2_readsSend 56 = .ok (.istore_n 2, 1) := dk_61 (dk_at dksX2_readsSend_2 10 rfl rfl)
theorem dX2_readsSend_57 : decode cX2_readsSend 57 = .ok (.iload_n 2, 1) := dk_28 (dk_at dksX2_readsSend_2 11 rfl rfl)
theorem dX2_readsSend_58 : decode cX2_readsSend 58 = .ok (.aload_n 0, 1) := dk_42 (dk_at dksX2_readsSend_2 12 rfl rfl)
theorem dX2_readsSend_59 : decode cX2_readsSend 59 = .ok (.getfield 81, 3) := dk_180 0 81 (dk_at dksX2_readsSend_2 13 rfl rfl)
theorem dX2_readsSend_62 : decode cX2_readsSend 62 = .ok (.aload_n 0, 1) := dk_42 (dk_at dksX2_readsSend_2 16 rfl rfl)
theorem dX2_readsSend_63 : decode cX2_readsSend 63 = .ok (.getfield 84, 3) := dk_180 0 84 (dk_at dksX2_readsSend_2 17 rfl rfl)
theorem dX2_readsSend_66 : decode cX2_readsSend 66 = .ok (.isub, 1) := dk_100 (dk_at dksX2_readsSend_2 20 rfl rfl)
theorem dX2_readsSend_67 : decode cX2_readsSend 67 = .ok (.if_icmp .ge 29, 3) := dk_162 0 29 (dk_at dksX2_readsSend_2 21 rfl rfl)
theorem dX2_readsSend_70 : decode cX2_readsSend 70 = .ok (.aload_n 0, 1) := dk_42 (dk_at dksX2_readsSend_3 0 rfl rfl)
theorem dX2_readsSend_71 : decode cX2_readsSend 71 = .ok (.iload_n 1, 1) := dk_27 (dk_at dksX2_readsSend_3 1 rfl rfl)
theorem dX2_readsSend_72 : decode cX2_readsSend 72 = .ok (.iload_n 2, 1) := dk_28 (dk_at dksX2_readsSend_3 2 rfl rfl)
theorem dX2_readsSend_73 : decode cX2_readsSend 73 = .ok (.aload_n 0, 1) := dk_42 (dk_at dksX2_readsSend_3 3 rfl rfl)
theorem dX2_readsSend_74 : decode cX2_readsSend 74 = .ok (.getfield 26, 3) := dk_180 0 26 (dk_at dksX2_readsSend_3 4 rfl rfl)
theorem dX2_readsSend_77 : decode cX2_readsSend 77 = .ok (.aload_n 0, 1) := dk_42 (dk_at dksX2_readsSend_3 7 rfl rfl)
theorem dX2_readsSend_78 : decode cX2_readsSend 78 = .ok (.getfield 84, 3) := dk_180 0 84 (dk_at dksX2_readsSend_3 8 rfl rfl)
theorem dX2_readsSend_81 : decode cX2_readsSend 81 = .ok (.iload_n 2, 1) := dk_28 (dk_at dksX2_readsSend_3 11 rfl rfl)
theorem dX2_readsSend_82 : decode cX2_readsSend 82 = .ok (.iadd, 1) := dk_96 (dk_at dksX2_readsSend_3 12 rfl rfl)
theorem dX2_readsSend_83 : decode cX2_readsSend 83 = .ok (.baload, 1) := dk_51 (dk_at dksX2_readsSend_3 13 rfl rfl)
theorem dX2_readsSend_84 : decode cX2_readsSend 84 = .ok (.bipush 48, 2) := dk_16 48 (dk_at dksX2_readsSend_3 14 rfl rfl)
theorem dX2_readsSend_86 : decode cX2_readsSend 86 = .ok (.isub, 1) := dk_100 (dk_at dksX2_readsSend_3 16 rfl rfl)
theorem dX2_readsSend_87 : decode cX2_readsSend 87 = .ok (.invokevirtual 185, 3) := dk_182 0 185 (dk_at dksX2_readsSend_3 17 rfl rfl)
theorem dX2_readsSend_90 : decode cX2_readsSend 90 = .ok (.iinc 2 1, 3) := dk_132 2 1 (dk_at dksX2_readsSend_3 20 rfl rfl)
theorem dX2_readsSend_93 : decode cX2_readsSend 93 = .ok (.goto (-36), 3) := dk_167 255 220 (dk_at dksX2_readsSend_4 0 rfl rfl)
theorem dX2_readsSend_96 : decode cX2_readsSend 96 = .ok (.aload_n 0, 1) := dk_42 (dk_at dksX2_readsSend_4 3 rfl rfl)
theorem dX2_readsSend_97 : decode cX2_readsSend 97 = .ok (.iconst 0, 1) := dk_3 (dk_at dksX2_readsSend_4 4 rfl rfl)
theorem dX2_readsSend_98 : decode cX2_readsSend 98 = .ok (.iload_n 1, 1) := dk_27 (dk_at dksX2_readsSend_4 5 rfl rfl)
theorem dX2_readsSend_99 : decode cX2_readsSend 99 = .ok (.invokevirtual 188, 3) := dk_182 0 188 (dk_at dksX2_readsSend_4 6 rfl rfl)
theorem dX2_readsSend_102 : decode cX2_readsSend 102 = .ok (.aload_n 0, 1) := dk_42 (dk_at dksX2_readsSend_4 9 rfl rfl)
theorem dX2_readsSend_103 : decode cX2_readsSend 103 = .ok (.invokevirtual 120, 3) := dk_182 0 120 (dk_at dksX2_readsSend_4 10 rfl rfl)
theorem dX2_readsSend_106 : decode cX2_readsSend 106 = .ok (.return_, 1) := dk_177 (dk_at dksX2_readsSend_4 13 rfl rfl)
abbrev cX2_begins : ByteArray := prog_12_method_49_code
def yX2_begins : MethodName := ⟨RX2, "begins", "(I)I"⟩
def dkwX2_begins_2 : List UInt8 := [182, 0, 241, 42, 28, 7, 2, 182, 0, 241, 42, 180, 0, 9, 6, 92, 46, 4, 96, 79, 28, 172]
abbrev dktX2_begins_2 : List UInt8 := dkwX2_begins_2 ++ []
def dkwX2_begins_1 : List UInt8 := [132, 3, 1, 167, 255, 239, 42, 28, 3, 27, 182, 0, 241, 42, 28, 6, 42, 180, 0, 9, 5, 46]
abbrev dktX2_begins_1 : List UInt8 := dkwX2_begins_1 ++ dktX2_begins_2
def dkwX2_begins_0 : List UInt8 := [42, 180, 0, 9, 6, 46, 61, 3, 62, 29, 17, 0, 197, 162, 0, 16, 42, 28, 29, 3, 182, 0, 241]
abbrev dktX2_begins_0 : List UInt8 := dkwX2_begins_0 ++ dktX2_begins_1
theorem dksX2_begins_0 : cX2_begins.data.toList.drop 0 = dktX2_begins_0 := by decide +kernel
theorem dksX2_begins_1 : cX2_begins.data.toList.drop 23 = dktX2_begins_1 := dk_seg dksX2_begins_0 23 rfl rfl
theorem dksX2_begins_2 : cX2_begins.data.toList.drop 45 = dktX2_begins_2 := dk_seg dksX2_begins_1 22 rfl rfl
theorem dX2_begins_0 : decode cX2_begins 0 = .ok (.aload_n 0, 1) := dk_42 (dk_at dksX2_begins_0 0 rfl rfl)
theorem dX2_begins_1 : decode cX2_begins 1 = .ok (.getfield 9, 3) := dk_180 0 9 (dk_at dksX2_begins_0 1 rfl rfl)
theorem dX2_begins_4 : decode cX2_begins 4 = .ok (.iconst 3, 1) := dk_6 (dk_at dksX2_begins_0 4 rfl rfl)
theorem dX2_begins_5 : decode cX2_begins 5 = .ok (.iaload, 1) := dk_46 (dk_at dksX2_begins_0 5 rfl rfl)
theorem dX2_begins_6 : decode cX2_begins 6 = .ok (.istore_n 2, 1) := dk_61 (dk_at dksX2_begins_0 6 rfl rfl)
theorem dX2_begins_7 : decode cX2_begins 7 = .ok (.iconst 0, 1) := dk_3 (dk_at dksX2_begins_0 7 rfl rfl)
theorem dX2_begins_8 : decode cX2_begins 8 = .ok (.istore_n 3, 1) := dk_62 (dk_at dksX2_begins_0 8 rfl rfl)
theorem dX2_begins_9 : decode cX2_begins 9 = .ok (.iload_n 3, 1) := dk_29 (dk_at dksX2_begins_0 9 rfl rfl)
theorem dX2_begins_10 : decode cX2_begins 10 = .ok (.sipush 197, 3) := dk_17 0 197 (dk_at dksX2_begins_0 10 rfl rfl)
theorem dX2_begins_13 : decode cX2_begins 13 = .ok (.if_icmp .ge 16, 3) := dk_162 0 16 (dk_at dksX2_begins_0 13 rfl rfl)
theorem dX2_begins_16 : decode cX2_begins 16 = .ok (.aload_n 0, 1) := dk_42 (dk_at dksX2_begins_0 16 rfl rfl)
theorem dX2_begins_17 : decode cX2_begins 17 = .ok (.iload_n 2, 1) := dk_28 (dk_at dksX2_begins_0 17 rfl rfl)
theorem dX2_begins_18 : decode cX2_begins 18 = .ok (.iload_n 3, 1) := dk_29 (dk_at dksX2_begins_0 18 rfl rfl)
theorem dX2_begins_19 : decode cX2_begins 19 = .ok (.iconst 0, 1) := dk_3 (dk_at dksX2_begins_0 19 rfl rfl)
theorem dX2_begins_20 : decode cX2_begins 20 = .ok (.invokevirtual 241, 3) := dk_182 0 241 (dk_at dksX2_begins_0 20 rfl rfl)
theorem dX2_begins_23 : decode cX2_begins 23 = .ok (.iinc 3 1, 3) := dk_132 3 1 (dk_at dksX2_begins_1 0 rfl rfl)
theorem dX2_begins_26 : decode cX2_begins 26 = .ok (.goto (-17), 3) := dk_167 255 239 (dk_at dksX2_begins_1 3 rfl rfl)
theorem dX2_begins_29 : decode cX2_begins 29 = .ok (.aload_n 0, 1) := dk_42 (dk_at dksX2_begins_1 6 rfl rfl)
theorem dX2_begins_30 : decode cX2_begins 30 = .ok (.iload_n 2, 1) := dk_28 (dk_at dksX2_begins_1 7 rfl rfl)
theorem dX2_begins_31 : decode cX2_begins 31 = .ok (.iconst 0, 1) := dk_3 (dk_at dksX2_begins_1 8 rfl rfl)
theorem dX2_begins_32 : decode cX2_begins 32 = .ok (.iload_n 1, 1) := dk_27 (dk_at dksX2_begins_1 9 rfl rfl)
theorem dX2_begins_33 : decode cX2_begins 33 = .ok (.invokevirtual 241, 3) := dk_182 0 241 (dk_at dksX2_begins_1 10 rfl rfl)
theorem dX2_begins_36 : decode cX2_begins 36 = .ok (.aload_n 0, 1) := dk_42 (dk_at dksX2_begins_1 13 rfl rfl)
theorem dX2_begins_37 : decode cX2_begins 37 = .ok (.iload_n 2, 1) := dk_28 (dk_at dksX2_begins_1 14 rfl rfl)
theorem dX2_begins_38 : decode cX2_begins 38 = .ok (.iconst 3, 1) := dk_6 (dk_at dksX2_begins_1 15 rfl rfl)
theorem dX2_begins_39 : decode cX2_begins 39 = .ok (.aload_n 0, 1) := dk_42 (dk_at dksX2_begins_1 16 rfl rfl)
theorem dX2_begins_40 : decode cX2_begins 40 = .ok (.getfield 9, 3) := dk_180 0 9 (dk_at dksX2_begins_1 17 rfl rfl)
theorem dX2_begins_43 : decode cX2_begins 43 = .ok (.iconst 2, 1) := dk_5 (dk_at dksX2_begins_1 20 rfl rfl)
theorem dX2_begins_44 : decode cX2_begins 44 = .ok (.iaload, 1) := dk_46 (dk_at dksX2_begins_1 21 rfl rfl)
theorem dX2_begins_45 : decode cX2_begins 45 = .ok (.invokevirtual 241, 3) := dk_182 0 241 (dk_at dksX2_begins_2 0 rfl rfl)
theorem dX2_begins_48 : decode cX2_begins 48 = .ok (.aload_n 0, 1) := dk_42 (dk_at dksX2_begins_2 3 rfl rfl)
theorem dX2_begins_49 : decode cX2_begins 49 = .ok (.iload_n 2, 1) := dk_28 (dk_at dksX2_begins_2 4 rfl rfl)
theorem dX2_begins_50 : decode cX2_begins 50 = .ok (.iconst 4, 1) := dk_7 (dk_at dksX2_begins_2 5 rfl rfl)
theorem dX2_begins_51 : decode cX2_begins 51 = .ok (.iconst (-1), 1) := dk_2 (dk_at dksX2_begins_2 6 rfl rfl)
theorem dX2_begins_52 : decode cX2_begins 52 = .ok (.invokevirtual 241, 3) := dk_182 0 241 (dk_at dksX2_begins_2 7 rfl rfl)
theorem dX2_begins_55 : decode cX2_begins 55 = .ok (.aload_n 0, 1) := dk_42 (dk_at dksX2_begins_2 10 rfl rfl)
theorem dX2_begins_56 : decode cX2_begins 56 = .ok (.getfield 9, 3) := dk_180 0 9 (dk_at dksX2_begins_2 11 rfl rfl)
theorem dX2_begins_59 : decode cX2_begins 59 = .ok (.iconst 3, 1) := dk_6 (dk_at dksX2_begins_2 14 rfl rfl)
theorem dX2_begins_60 : decode cX2_begins 60 = .ok (.dup2, 1) := dk_92 (dk_at dksX2_begins_2 15 rfl rfl)
theorem dX2_begins_61 : decode cX2_begins 61 = .ok (.iaload, 1) := dk_46 (dk_at dksX2_begins_2 16 rfl rfl)
theorem dX2_begins_62 : decode cX2_begins 62 = .ok (.iconst 1, 1) := dk_4 (dk_at dksX2_begins_2 17 rfl rfl)
theorem dX2_begins_63 : decode cX2_begins 63 = .ok (.iadd, 1) := dk_96 (dk_at dksX2_begins_2 18 rfl rfl)
theorem dX2_begins_64 : decode cX2_begins 64 = .ok (.iastore, 1) := dk_79 (dk_at dksX2_begins_2 19 rfl rfl)
theorem dX2_begins_65 : decode cX2_begins 65 = .ok (.iload_n 2, 1) := dk_28 (dk_at dksX2_begins_2 20 rfl rfl)
theorem dX2_begins_66 : decode cX2_begins 66 = .ok (.ireturn, 1) := dk_172 (dk_at dksX2_begins_2 21 rfl rfl)
abbrev cX2_puts : ByteArray := prog_12_method_45_code
def yX2_puts : MethodName := ⟨RX2, "puts", "(III)V"⟩
def dkwX2_puts_0 : List UInt8 := [42, 180, 0, 9, 17, 0, 234, 17, 0, 197, 27, 104, 96, 28, 96, 29, 79, 177]
abbrev dktX2_puts_0 : List UInt8 := dkwX2_puts_0 ++ []
theorem dksX2_puts_0 : cX2_puts.data.toList.drop 0 = dktX2_puts_0 := by decide +kernel
theorem dX2_puts_0 : decode cX2_puts 0 = .ok (.aload_n 0, 1) := dk_42 (dk_at dksX2_puts_0 0 rfl rfl)
theorem dX2_puts_1 : decode cX2_puts 1 = .ok (.getfield 9, 3) := dk_180 0 9 (dk_at dksX2_puts_0 1 rfl rfl)
theorem dX2_puts_4 : decode cX2_puts 4 = .ok (.sipush 234, 3) := dk_17 0 234 (dk_at dksX2_puts_0 4 rfl rfl)
theorem dX2_puts_7 : decode cX2_puts 7 = .ok (.sipush 197, 3) := dk_17 0 197 (dk_at dksX2_puts_0 7 rfl rfl)
theorem dX2_puts_10 : decode cX2_puts 10 = .ok (.iload_n 1, 1) := dk_27 (dk_at dksX2_puts_0 10 rfl rfl)
theorem dX2_puts_11 : decode cX2_puts 11 = .ok (.imul, 1) := dk_104 (dk_at dksX2_puts_0 11 rfl rfl)
theorem dX2_puts_12 : decode cX2_puts 12 = .ok (.iadd, 1) := dk_96 (dk_at dksX2_puts_0 12 rfl rfl)
theorem dX2_puts_13 : decode cX2_puts 13 = .ok (.iload_n 2, 1) := dk_28 (dk_at dksX2_puts_0 13 rfl rfl)
theorem dX2_puts_14 : decode cX2_puts 14 = .ok (.iadd, 1) := dk_96 (dk_at dksX2_puts_0 14 rfl rfl)
theorem dX2_puts_15 : decode cX2_puts 15 = .ok (.iload_n 3, 1) := dk_29 (dk_at dksX2_puts_0 15 rfl rfl)
theorem dX2_puts_16 : decode cX2_puts 16 = .ok (.iastore, 1) := dk_79 (dk_at dksX2_puts_0 16 rfl rfl)
theorem dX2_puts_17 : decode cX2_puts 17 = .ok (.return_, 1) := dk_177 (dk_at dksX2_puts_0 17 rfl rfl)
abbrev cX2_putsDigit : ByteArray := prog_12_method_50_code
def yX2_putsDigit : MethodName := ⟨RX2, "putsDigit", "(III)V"⟩
def dkwX2_putsDigit_1 : List UInt8 := [21, 4, 104, 96, 28, 96, 29, 182, 0, 241, 132, 4, 1, 167, 255, 231, 177]
abbrev dktX2_putsDigit_1 : List UInt8 := dkwX2_putsDigit_1 ++ []
def dkwX2_putsDigit_0 : List UInt8 := [42, 27, 8, 28, 96, 29, 182, 0, 241, 3, 54, 4, 21, 4, 6, 162, 0, 25, 42, 27, 16, 17, 16, 12]
abbrev dktX2_putsDigit_0 : List UInt8 := dkwX2_putsDigit_0 ++ dktX2_putsDigit_1
theorem dksX2_putsDigit_0 : cX2_putsDigit.data.toList.drop 0 = dktX2_putsDigit_0 := by decide +kernel
theorem dksX2_putsDigit_1 : cX2_putsDigit.data.toList.drop 24 = dktX2_putsDigit_1 := dk_seg dksX2_putsDigit_0 24 rfl rfl
theorem dX2_putsDigit_0 : decode cX2_putsDigit 0 = .ok (.aload_n 0, 1) := dk_42 (dk_at dksX2_putsDigit_0 0 rfl rfl)
theorem dX2_putsDigit_1 : decode cX2_putsDigit 1 = .ok (.iload_n 1, 1) := dk_27 (dk_at dksX2_putsDigit_0 1 rfl rfl)
theorem dX2_putsDigit_2 : decode cX2_putsDigit 2 = .ok (.iconst 5, 1) := dk_8 (dk_at dksX2_putsDigit_0 2 rfl rfl)
theorem dX2_putsDigit_3 : decode cX2_putsDigit 3 = .ok (.iload_n 2, 1) := dk_28 (dk_at dksX2_putsDigit_0 3 rfl rfl)
theorem dX2_putsDigit_4 : decode cX2_putsDigit 4 = .ok (.iadd, 1) := dk_96 (dk_at dksX2_putsDigit_0 4 rfl rfl)
theorem dX2_putsDigit_5 : decode cX2_putsDigit 5 = .ok (.iload_n 3, 1) := dk_29 (dk_at dksX2_putsDigit_0 5 rfl rfl)
theorem dX2_putsDigit_6 : decode cX2_putsDigit 6 = .ok (.invokevirtual 241, 3) := dk_182 0 241 (dk_at dksX2_putsDigit_0 6 rfl rfl)
theorem dX2_putsDigit_9 : decode cX2_putsDigit 9 = .ok (.iconst 0, 1) := dk_3 (dk_at dksX2_putsDigit_0 9 rfl rfl)
theorem dX2_putsDigit_10 : decode cX2_putsDigit 10 = .ok (.istore 4, 2) := dk_54 4 (dk_at dksX2_putsDigit_0 10 rfl rfl)
theorem dX2_putsDigit_12 : decode cX2_putsDigit 12 = .ok (.iload 4, 2) := dk_21 4 (dk_at dksX2_putsDigit_0 12 rfl rfl)
theorem dX2_putsDigit_14 : decode cX2_putsDigit 14 = .ok (.iconst 3, 1) := dk_6 (dk_at dksX2_putsDigit_0 14 rfl rfl)
theorem dX2_putsDigit_15 : decode cX2_putsDigit 15 = .ok (.if_icmp .ge 25, 3) := dk_162 0 25 (dk_at dksX2_putsDigit_0 15 rfl rfl)
theorem dX2_putsDigit_18 : decode cX2_putsDigit 18 = .ok (.aload_n 0, 1) := dk_42 (dk_at dksX2_putsDigit_0 18 rfl rfl)
theorem dX2_putsDigit_19 : decode cX2_putsDigit 19 = .ok (.iload_n 1, 1) := dk_27 (dk_at dksX2_putsDigit_0 19 rfl rfl)
theorem dX2_putsDigit_20 : decode cX2_putsDigit 20 = .ok (.bipush 17, 2) := dk_16 17 (dk_at dksX2_putsDigit_0 20 rfl rfl)
theorem dX2_putsDigit_22 : decode cX2_putsDigit 22 = .ok (.bipush 12, 2) := dk_16 12 (dk_at dksX2_putsDigit_0 22 rfl rfl)
theorem dX2_putsDigit_24 : decode cX2_putsDigit 24 = .ok (.iload 4, 2) := dk_21 4 (dk_at dksX2_putsDigit_1 0 rfl rfl)
theorem dX2_putsDigit_26 : decode cX2_putsDigit 26 = .ok (.imul, 1) := dk_104 (dk_at dksX2_putsDigit_1 2 rfl rfl)
theorem dX2_putsDigit_27 : decode cX2_putsDigit 27 = .ok (.iadd, 1) := dk_96 (dk_at dksX2_putsDigit_1 3 rfl rfl)
theorem dX2_putsDigit_28 : decode cX2_putsDigit 28 = .ok (.iload_n 2, 1) := dk_28 (dk_at dksX2_putsDigit_1 4 rfl rfl)
theorem dX2_putsDigit_29 : decode cX2_putsDigit 29 = .ok (.iadd, 1) := dk_96 (dk_at dksX2_putsDigit_1 5 rfl rfl)
theorem dX2_putsDigit_30 : decode cX2_putsDigit 30 = .ok (.iload_n 3, 1) := dk_29 (dk_at dksX2_putsDigit_1 6 rfl rfl)
theorem dX2_putsDigit_31 : decode cX2_putsDigit 31 = .ok (.invokevirtual 241, 3) := dk_182 0 241 (dk_at dksX2_putsDigit_1 7 rfl rfl)
theorem dX2_putsDigit_34 : decode cX2_putsDigit 34 = .ok (.iinc 4 1, 3) := dk_132 4 1 (dk_at dksX2_putsDigit_1 10 rfl rfl)
theorem dX2_putsDigit_37 : decode cX2_putsDigit 37 = .ok (.goto (-25), 3) := dk_167 255 231 (dk_at dksX2_putsDigit_1 13 rfl rfl)
theorem dX2_putsDigit_40 : decode cX2_putsDigit 40 = .ok (.return_, 1) := dk_177 (dk_at dksX2_putsDigit_1 16 rfl rfl)
abbrev cX2_logs : ByteArray := prog_12_method_51_code
def yX2_logs : MethodName := ⟨RX2, "logs", "(II)V"⟩
def dkwX2_logs_5 : List UInt8 := [92, 46, 4, 96, 79, 177]
abbrev dktX2_logs_5 : List UInt8 := dkwX2_logs_5 ++ []
def dkwX2_logs_4 : List UInt8 := [29, 5, 96, 28, 79, 42, 180, 0, 9, 29, 6, 96, 42, 28, 4, 182, 0, 238, 79, 42, 180, 0, 9, 7]
abbrev dktX2_logs_4 : List UInt8 := dkwX2_logs_4 ++ dktX2_logs_5
def dkwX2_logs_3 : List UInt8 := [180, 0, 9, 29, 42, 180, 0, 9, 5, 46, 79, 42, 180, 0, 9, 29, 4, 96, 27, 79, 42, 180, 0, 9]
abbrev dktX2_logs_3 : List UInt8 := dkwX2_logs_3 ++ dktX2_logs_4
def dkwX2_logs_2 : List UInt8 := [42, 180, 0, 9, 7, 92, 46, 4, 100, 79, 17, 5, 136, 7, 42, 180, 0, 9, 7, 46, 104, 96, 62, 42]
abbrev dktX2_logs_2 : List UInt8 := dkwX2_logs_2 ++ dktX2_logs_3
def dkwX2_logs_1 : List UInt8 := [17, 5, 136, 29, 96, 42, 180, 0, 9, 17, 5, 136, 29, 96, 7, 96, 46, 79, 132, 3, 1, 167, 255, 224]
abbrev dktX2_logs_1 : List UInt8 := dkwX2_logs_1 ++ dktX2_logs_2
def dkwX2_logs_0 : List UInt8 := [42, 180, 0, 9, 7, 46, 16, 40, 160, 0, 50, 3, 62, 29, 17, 0, 156, 162, 0, 31, 42, 180, 0, 9]
abbrev dktX2_logs_0 : List UInt8 := dkwX2_logs_0 ++ dktX2_logs_1
theorem dksX2_logs_0 : cX2_logs.data.toList.drop 0 = dktX2_logs_0 := by decide +kernel
theorem dksX2_logs_1 : cX2_logs.data.toList.drop 24 = dktX2_logs_1 := dk_seg dksX2_logs_0 24 rfl rfl
theorem dksX2_logs_2 : cX2_logs.data.toList.drop 48 = dktX2_logs_2 := dk_seg dksX2_logs_1 24 rfl rfl
theorem dksX2_logs_3 : cX2_logs.data.toList.drop 72 = dktX2_logs_3 := dk_seg dksX2_logs_2 24 rfl rfl
theorem dksX2_logs_4 : cX2_logs.data.toList.drop 96 = dktX2_logs_4 := dk_seg dksX2_logs_3 24 rfl rfl
theorem dksX2_logs_5 : cX2_logs.data.toList.drop 120 = dktX2_logs_5 := dk_seg dksX2_logs_4 24 rfl rfl
theorem dX2_logs_0 : decode cX2_logs 0 = .ok (.aload_n 0, 1) := dk_42 (dk_at dksX2_logs_0 0 rfl rfl)
theorem dX2_logs_1 : decode cX2_logs 1 = .ok (.getfield 9, 3) := dk_180 0 9 (dk_at dksX2_logs_0 1 rfl rfl)
theorem dX2_logs_4 : decode cX2_logs 4 = .ok (.iconst 4, 1) := dk_7 (dk_at dksX2_logs_0 4 rfl rfl)
theorem dX2_logs_5 : decode cX2_logs 5 = .ok (.iaload, 1) := dk_46 (dk_at dksX2_logs_0 5 rfl rfl)
theorem dX2_logs_6 : decode cX2_logs 6 = .ok (.bipush 40, 2) := dk_16 40 (dk_at dksX2_logs_0 6 rfl rfl)
theorem dX2_logs_8 : decode cX2_logs 8 = .ok (.if_icmp .ne 50, 3) := dk_160 0 50 (dk_at dksX2_logs_0 8 rfl rfl)
theorem dX2_logs_11 : decode cX2_logs 11 = .ok (.iconst 0, 1) := dk_3 (dk_at dksX2_logs_0 11 rfl rfl)
theorem dX2_logs_12 : decode cX2_logs 12 = .ok (.istore_n 3, 1) := dk_62 (dk_at dksX2_logs_0 12 rfl rfl)
theorem dX2_logs_13 : decode cX2_logs 13 = .ok (.iload_n 3, 1) := dk_29 (dk_at dksX2_logs_0 13 rfl rfl)
theorem dX2_logs_14 : decode cX2_logs 14 = .ok (.sipush 156, 3) := dk_17 0 156 (dk_at dksX2_logs_0 14 rfl rfl)
theorem dX2_logs_17 : decode cX2_logs 17 = .ok (.if_icmp .ge 31, 3) := dk_162 0 31 (dk_at dksX2_logs_0 17 rfl rfl)
theorem dX2_logs_20 : decode cX2_logs 20 = .ok (.aload_n 0, 1) := dk_42 (dk_at dksX2_logs_0 20 rfl rfl)
theorem dX2_logs_21 : decode cX2_logs 21 = .ok (.getfield 9, 3) := dk_180 0 9 (dk_at dksX2_logs_0 21 rfl rfl)
theorem dX2_logs_24 : decode cX2_logs 24 = .ok (.sipush 1416, 3) := dk_17 5 136 (dk_at dksX2_logs_1 0 rfl rfl)
theorem dX2_logs_27 : decode cX2_logs 27 = .ok (.iload_n 3, 1) := dk_29 (dk_at dksX2_logs_1 3 rfl rfl)
theorem dX2_logs_28 : decode cX2_logs 28 = .ok (.iadd, 1) := dk_96 (dk_at dksX2_logs_1 4 rfl rfl)
theorem dX2_logs_29 : decode cX2_logs 29 = .ok (.aload_n 0, 1) := dk_42 (dk_at dksX2_logs_1 5 rfl rfl)
theorem dX2_logs_30 : decode cX2_logs 30 = .ok (.getfield 9, 3) := dk_180 0 9 (dk_at dksX2_logs_1 6 rfl rfl)
theorem dX2_logs_33 : decode cX2_logs 33 = .ok (.sipush 1416, 3) := dk_17 5 136 (dk_at dksX2_logs_1 9 rfl rfl)
theorem dX2_logs_36 : decode cX2_logs 36 = .ok (.iload_n 3, 1) := dk_29 (dk_at dksX2_logs_1 12 rfl rfl)
theorem dX2_logs_37 : decode cX2_logs 37 = .ok (.iadd, 1) := dk_96 (dk_at dksX2_logs_1 13 rfl rfl)
theorem dX2_logs_38 : decode cX2_logs 38 = .ok (.iconst 4, 1) := dk_7 (dk_at dksX2_logs_1 14 rfl rfl)
theorem dX2_logs_39 : decode cX2_logs 39 = .ok (.iadd, 1) := dk_96 (dk_at dksX2_logs_1 15 rfl rfl)
theorem dX2_logs_40 : decode cX2_logs 40 = .ok (.iaload, 1) := dk_46 (dk_at dksX2_logs_1 16 rfl rfl)
theorem dX2_logs_41 : decode cX2_logs 41 = .ok (.iastore, 1) := dk_79 (dk_at dksX2_logs_1 17 rfl rfl)
theorem dX2_logs_42 : decode cX2_logs 42 = .ok (.iinc 3 1, 3) := dk_132 3 1 (dk_at dksX2_logs_1 18 rfl rfl)
theorem dX2_logs_45 : decode cX2_logs 45 = .ok (.goto (-32), 3) := dk_167 255 224 (dk_at dksX2_logs_1 21 rfl rfl)
theorem dX2_logs_48 : decode cX2_logs 48 = .ok (.aload_n 0, 1) := dk_42 (dk_at dksX2_logs_2 0 rfl rfl)
theorem dX2_logs_49 : decode cX2_logs 49 = .ok (.getfield 9, 3) := dk_180 0 9 (dk_at dksX2_logs_2 1 rfl rfl)
theorem dX2_logs_52 : decode cX2_logs 52 = .ok (.iconst 4, 1) := dk_7 (dk_at dksX2_logs_2 4 rfl rfl)
theorem dX2_logs_53 : decode cX2_logs 53 = .ok (.dup2, 1) := dk_92 (dk_at dksX2_logs_2 5 rfl rfl)
theorem dX2_logs_54 : decode cX2_logs 54 = .ok (.iaload, 1) := dk_46 (dk_at dksX2_logs_2 6 rfl rfl)
theorem dX2_logs_55 : decode cX2_logs 55 = .ok (.iconst 1, 1) := dk_4 (dk_at dksX2_logs_2 7 rfl rfl)
theorem dX2_logs_56 : decode cX2_logs 56 = .ok (.isub, 1) := dk_100 (dk_at dksX2_logs_2 8 rfl rfl)
theorem dX2_logs_57 : decode cX2_logs 57 = .ok (.iastore, 1) := dk_79 (dk_at dksX2_logs_2 9 rfl rfl)
theorem dX2_logs_58 : decode cX2_logs 58 = .ok (.sipush 1416, 3) := dk_17 5 136 (dk_at dksX2_logs_2 10 rfl rfl)
theorem dX2_logs_61 : decode cX2_logs 61 = .ok (.iconst 4, 1) := dk_7 (dk_at dksX2_logs_2 13 rfl rfl)
theorem dX2_logs_62 : decode cX2_logs 62 = .ok (.aload_n 0, 1) := dk_42 (dk_at dksX2_logs_2 14 rfl rfl)
theorem dX2_logs_63 : decode cX2_logs 63 = .ok (.getfield 9, 3) := dk_180 0 9 (dk_at dksX2_logs_2 15 rfl rfl)
theorem dX2_logs_66 : decode cX2_logs 66 = .ok (.iconst 4, 1) := dk_7 (dk_at dksX2_logs_2 18 rfl rfl)
theorem dX2_logs_67 : decode cX2_logs 67 = .ok (.iaload, 1) := dk_46 (dk_at dksX2_logs_2 19 rfl rfl)
theorem dX2_logs_68 : decode cX2_logs 68 = .ok (.imul, 1) := dk_104 (dk_at dksX2_logs_2 20 rfl rfl)
theorem dX2_logs_69 : decode cX2_logs 69 = .ok (.iadd, 1) := dk_96 (dk_at dksX2_logs_2 21 rfl rfl)
theorem dX2_logs_70 : decode cX2_logs 70 = .ok (.istore_n 3, 1) := dk_62 (dk_at dksX2_logs_2 22 rfl rfl)
theorem dX2_logs_71 : decode cX2_logs 71 = .ok (.aload_n 0, 1) := dk_42 (dk_at dksX2_logs_2 23 rfl rfl)
theorem dX2_logs_72 : decode cX2_logs 72 = .ok (.getfield 9, 3) := dk_180 0 9 (dk_at dksX2_logs_3 0 rfl rfl)
theorem dX2_logs_75 : decode cX2_logs 75 = .ok (.iload_n 3, 1) := dk_29 (dk_at dksX2_logs_3 3 rfl rfl)
theorem dX2_logs_76 : decode cX2_logs 76 = .ok (.aload_n 0, 1) := dk_42 (dk_at dksX2_logs_3 4 rfl rfl)
theorem dX2_logs_77 : decode cX2_logs 77 = .ok (.getfield 9, 3) := dk_180 0 9 (dk_at dksX2_logs_3 5 rfl rfl)
theorem dX2_logs_80 : decode cX2_logs 80 = .ok (.iconst 2, 1) := dk_5 (dk_at dksX2_logs_3 8 rfl rfl)
theorem dX2_logs_81 : decode cX2_logs 81 = .ok (.iaload, 1) := dk_46 (dk_at dksX2_logs_3 9 rfl rfl)
theorem dX2_logs_82 : decode cX2_logs 82 = .ok (.iastore, 1) := dk_79 (dk_at dksX2_logs_3 10 rfl rfl)
theorem dX2_logs_83 : decode cX2_logs 83 = .ok (.aload_n 0, 1) := dk_42 (dk_at dksX2_logs_3 11 rfl rfl)
theorem dX2_logs_84 : decode cX2_logs 84 = .ok (.getfield 9, 3) := dk_180 0 9 (dk_at dksX2_logs_3 12 rfl rfl)
theorem dX2_logs_87 : decode cX2_logs 87 = .ok (.iload_n 3, 1) := dk_29 (dk_at dksX2_logs_3 15 rfl rfl)
theorem dX2_logs_88 : decode cX2_logs 88 = .ok (.iconst 1, 1) := dk_4 (dk_at dksX2_logs_3 16 rfl rfl)
theorem dX2_logs_89 : decode cX2_logs 89 = .ok (.iadd, 1) := dk_96 (dk_at dksX2_logs_3 17 rfl rfl)
theorem dX2_logs_90 : decode cX2_logs 90 = .ok (.iload_n 1, 1) := dk_27 (dk_at dksX2_logs_3 18 rfl rfl)
theorem dX2_logs_91 : decode cX2_logs 91 = .ok (.iastore, 1) := dk_79 (dk_at dksX2_logs_3 19 rfl rfl)
theorem dX2_logs_92 : decode cX2_logs 92 = .ok (.aload_n 0, 1) := dk_42 (dk_at dksX2_logs_3 20 rfl rfl)
theorem dX2_logs_93 : decode cX2_logs 93 = .ok (.getfield 9, 3) := dk_180 0 9 (dk_at dksX2_logs_3 21 rfl rfl)
theorem dX2_logs_96 : decode cX2_logs 96 = .ok (.iload_n 3, 1) := dk_29 (dk_at dksX2_logs_4 0 rfl rfl)
theorem dX2_logs_97 : decode cX2_logs 97 = .ok (.iconst 2, 1) := dk_5 (dk_at dksX2_logs_4 1 rfl rfl)
theorem dX2_logs_98 : decode cX2_logs 98 = .ok (.iadd, 1) := dk_96 (dk_at dksX2_logs_4 2 rfl rfl)
theorem dX2_logs_99 : decode cX2_logs 99 = .ok (.iload_n 2, 1) := dk_28 (dk_at dksX2_logs_4 3 rfl rfl)
theorem dX2_logs_100 : decode cX2_logs 100 = .ok (.iastore, 1) := dk_79 (dk_at dksX2_logs_4 4 rfl rfl)
theorem dX2_logs_101 : decode cX2_logs 101 = .ok (.aload_n 0, 1) := dk_42 (dk_at dksX2_logs_4 5 rfl rfl)
theorem dX2_logs_102 : decode cX2_logs 102 = .ok (.getfield 9, 3) := dk_180 0 9 (dk_at dksX2_logs_4 6 rfl rfl)
theorem dX2_logs_105 : decode cX2_logs 105 = .ok (.iload_n 3, 1) := dk_29 (dk_at dksX2_logs_4 9 rfl rfl)
theorem dX2_logs_106 : decode cX2_logs 106 = .ok (.iconst 3, 1) := dk_6 (dk_at dksX2_logs_4 10 rfl rfl)
theorem dX2_logs_107 : decode cX2_logs 107 = .ok (.iadd, 1) := dk_96 (dk_at dksX2_logs_4 11 rfl rfl)
theorem dX2_logs_108 : decode cX2_logs 108 = .ok (.aload_n 0, 1) := dk_42 (dk_at dksX2_logs_4 12 rfl rfl)
theorem dX2_logs_109 : decode cX2_logs 109 = .ok (.iload_n 2, 1) := dk_28 (dk_at dksX2_logs_4 13 rfl rfl)
theorem dX2_logs_110 : decode cX2_logs 110 = .ok (.iconst 1, 1) := dk_4 (dk_at dksX2_logs_4 14 rfl rfl)
theorem dX2_logs_111 : decode cX2_logs 111 = .ok (.invokevirtual 238, 3) := dk_182 0 238 (dk_at dksX2_logs_4 15 rfl rfl)
theorem dX2_logs_114 : decode cX2_logs 114 = .ok (.iastore, 1) := dk_79 (dk_at dksX2_logs_4 18 rfl rfl)
theorem dX2_logs_115 : decode cX2_logs 115 = .ok (.aload_n 0, 1) := dk_42 (dk_at dksX2_logs_4 19 rfl rfl)
theorem dX2_logs_116 : decode cX2_logs 116 = .ok (.getfield 9, 3) := dk_180 0 9 (dk_at dksX2_logs_4 20 rfl rfl)
theorem dX2_logs_119 : decode cX2_logs 119 = .ok (.iconst 4, 1) := dk_7 (dk_at dksX2_logs_4 23 rfl rfl)
theorem dX2_logs_120 : decode cX2_logs 120 = .ok (.dup2, 1) := dk_92 (dk_at dksX2_logs_5 0 rfl rfl)
theorem dX2_logs_121 : decode cX2_logs 121 = .ok (.iaload, 1) := dk_46 (dk_at dksX2_logs_5 1 rfl rfl)
theorem dX2_logs_122 : decode cX2_logs 122 = .ok (.iconst 1, 1) := dk_4 (dk_at dksX2_logs_5 2 rfl rfl)
theorem dX2_logs_123 : decode cX2_logs 123 = .ok (.iadd, 1) := dk_96 (dk_at dksX2_logs_5 3 rfl rfl)
theorem dX2_logs_124 : decode cX2_logs 124 = .ok (.iastore, 1) := dk_79 (dk_at dksX2_logs_5 4 rfl rfl)
theorem dX2_logs_125 : decode cX2_logs 125 = .ok (.return_, 1) := dk_177 (dk_at dksX2_logs_5 5 rfl rfl)
abbrev cX2_of : ByteArray := prog_12_method_44_code
def yX2_of : MethodName := ⟨RX2, "of", "(II)I"⟩
def dkwX2_of_0 : List UInt8 := [42, 180, 0, 9, 17, 0, 234, 17, 0, 197, 27, 104, 96, 28, 96, 46, 172]
abbrev dktX2_of_0 : List UInt8 := dkwX2_of_0 ++ []
theorem dksX2_of_0 : cX2_of.data.toList.drop 0 = dktX2_of_0 := by decide +kernel
theorem dX2_of_0 : decode cX2_of 0 = .ok (.aload_n 0, 1) := dk_42 (dk_at dksX2_of_0 0 rfl rfl)
theorem dX2_of_1 : decode cX2_of 1 = .ok (.getfield 9, 3) := dk_180 0 9 (dk_at dksX2_of_0 1 rfl rfl)
theorem dX2_of_4 : decode cX2_of 4 = .ok (.sipush 234, 3) := dk_17 0 234 (dk_at dksX2_of_0 4 rfl rfl)
theorem dX2_of_7 : decode cX2_of 7 = .ok (.sipush 197, 3) := dk_17 0 197 (dk_at dksX2_of_0 7 rfl rfl)
theorem dX2_of_10 : decode cX2_of 10 = .ok (.iload_n 1, 1) := dk_27 (dk_at dksX2_of_0 10 rfl rfl)
theorem dX2_of_11 : decode cX2_of 11 = .ok (.imul, 1) := dk_104 (dk_at dksX2_of_0 11 rfl rfl)
theorem dX2_of_12 : decode cX2_of 12 = .ok (.iadd, 1) := dk_96 (dk_at dksX2_of_0 12 rfl rfl)
theorem dX2_of_13 : decode cX2_of 13 = .ok (.iload_n 2, 1) := dk_28 (dk_at dksX2_of_0 13 rfl rfl)
theorem dX2_of_14 : decode cX2_of 14 = .ok (.iadd, 1) := dk_96 (dk_at dksX2_of_0 14 rfl rfl)
theorem dX2_of_15 : decode cX2_of 15 = .ok (.iaload, 1) := dk_46 (dk_at dksX2_of_0 15 rfl rfl)
theorem dX2_of_16 : decode cX2_of 16 = .ok (.ireturn, 1) := dk_172 (dk_at dksX2_of_0 16 rfl rfl)
abbrev cX2_readsPass : ByteArray := prog_12_method_33_code
def yX2_readsPass : MethodName := ⟨RX2, "readsPass", "()V"⟩
def dkwX2_readsPass_1 : List UInt8 := [182, 0, 192, 61, 177]
abbrev dktX2_readsPass_1 : List UInt8 := dkwX2_readsPass_1 ++ []
def dkwX2_readsPass_0 : List UInt8 := [42, 182, 0, 120, 42, 4, 16, 50, 182, 0, 123, 60, 42, 180, 0, 71, 158, 0, 4, 177, 42, 27]
abbrev dktX2_readsPass_0 : List UInt8 := dkwX2_readsPass_0 ++ dktX2_readsPass_1
theorem dksX2_readsPass_0 : cX2_readsPass.data.toList.drop 0 = dktX2_readsPass_0 := by decide +kernel
theorem dksX2_readsPass_1 : cX2_readsPass.data.toList.drop 22 = dktX2_readsPass_1 := dk_seg dksX2_readsPass_0 22 rfl rfl
theorem dX2_readsPass_0 : decode cX2_readsPass 0 = .ok (.aload_n 0, 1) := dk_42 (dk_at dksX2_readsPass_0 0 rfl rfl)
theorem dX2_readsPass_1 : decode cX2_readsPass 1 = .ok (.invokevirtual 120, 3) := dk_182 0 120 (dk_at dksX2_readsPass_0 1 rfl rfl)
theorem dX2_readsPass_4 : decode cX2_readsPass 4 = .ok (.aload_n 0, 1) := dk_42 (dk_at dksX2_readsPass_0 4 rfl rfl)
theorem dX2_readsPass_5 : decode cX2_readsPass 5 = .ok (.iconst 1, 1) := dk_4 (dk_at dksX2_readsPass_0 5 rfl rfl)
theorem dX2_readsPass_6 : decode cX2_readsPass 6 = .ok (.bipush 50, 2) := dk_16 50 (dk_at dksX2_readsPass_0 6 rfl rfl)
theorem dX2_readsPass_8 : decode cX2_readsPass 8 = .ok (.invokevirtual 123, 3) := dk_182 0 123 (dk_at dksX2_readsPass_0 8 rfl rfl)
theorem dX2_readsPass_11 : decode cX2_readsPass 11 = .ok (.istore_n 1, 1) := dk_60 (dk_at dksX2_readsPass_0 11 rfl rfl)
theorem dX2_readsPass_12 : decode cX2_readsPass 12 = .ok (.aload_n 0, 1) := dk_42 (dk_at dksX2_readsPass_0 12 rfl rfl)
theorem dX2_readsPass_13 : decode cX2_readsPass 13 = .ok (.getfield 71, 3) := dk_180 0 71 (dk_at dksX2_readsPass_0 13 rfl rfl)
theorem dX2_readsPass_16 : decode cX2_readsPass 16 = .ok (.ifCond .le 4, 3) := dk_158 0 4 (dk_at dksX2_readsPass_0 16 rfl rfl)
theorem dX2_readsPass_19 : decode cX2_readsPass 19 = .ok (.return_, 1) := dk_177 (dk_at dksX2_readsPass_0 19 rfl rfl)
theorem dX2_readsPass_20 : decode cX2_readsPass 20 = .ok (.aload_n 0, 1) := dk_42 (dk_at dksX2_readsPass_0 20 rfl rfl)
theorem dX2_readsPass_21 : decode cX2_readsPass 21 = .ok (.iload_n 1, 1) := dk_27 (dk_at dksX2_readsPass_0 21 rfl rfl)
theorem dX2_readsPass_22 : decode cX2_readsPass 22 = .ok (.invokevirtual 192, 3) := dk_182 0 192 (dk_at dksX2_readsPass_1 0 rfl rfl)
theorem dX2_readsPass_25 : decode cX2_readsPass 25 = .ok (.istore_n 2, 1) := dk_61 (dk_at dksX2_readsPass_1 3 rfl rfl)
theorem dX2_readsPass_26 : decode cX2_readsPass 26 = .ok (.return_, 1) := dk_177 (dk_at dksX2_readsPass_1 4 rfl rfl)
abbrev cX2_passes : ByteArray := prog_12_method_64_code
def yX2_passes : MethodName := ⟨RX2, "passes", "(I)I"⟩
def dkwX2_passes_2 : List UInt8 := [42, 180, 0, 9, 5, 92, 46, 4, 96, 79, 132, 3, 1, 167, 255, 203, 42, 182, 1, 31, 28, 100, 172]
abbrev dktX2_passes_2 : List UInt8 := dkwX2_passes_2 ++ []
def dkwX2_passes_1 : List UInt8 := [162, 0, 24, 42, 21, 4, 182, 0, 146, 153, 0, 9, 42, 21, 4, 182, 1, 34, 132, 4, 1, 167, 255, 227]
abbrev dktX2_passes_1 : List UInt8 := dkwX2_passes_1 ++ dktX2_passes_2
def dkwX2_passes_0 : List UInt8 := [42, 182, 1, 31, 61, 3, 62, 29, 27, 162, 0, 54, 3, 54, 4, 21, 4, 42, 180, 0, 9, 6, 46]
abbrev dktX2_passes_0 : List UInt8 := dkwX2_passes_0 ++ dktX2_passes_1
theorem dksX2_passes_0 : cX2_passes.data.toList.drop 0 = dktX2_passes_0 := by decide +kernel
theorem dksX2_passes_1 : cX2_passes.data.toList.drop 23 = dktX2_passes_1 := dk_seg dksX2_passes_0 23 rfl rfl
theorem dksX2_passes_2 : cX2_passes.data.toList.drop 47 = dktX2_passes_2 := dk_seg dksX2_passes_1 24 rfl rfl
theorem dX2_passes_0 : decode cX2_passes 0 = .ok (.aload_n 0, 1) := dk_42 (dk_at dksX2_passes_0 0 rfl rfl)
theorem dX2_passes_1 : decode cX2_passes 1 = .ok (.invokevirtual 287, 3) := dk_182 1 31 (dk_at dksX2_passes_0 1 rfl rfl)
theorem dX2_passes_4 : decode cX2_passes 4 = .ok (.istore_n 2, 1) := dk_61 (dk_at dksX2_passes_0 4 rfl rfl)
theorem dX2_passes_5 : decode cX2_passes 5 = .ok (.iconst 0, 1) := dk_3 (dk_at dksX2_passes_0 5 rfl rfl)
theorem dX2_passes_6 : decode cX2_passes 6 = .ok (.istore_n 3, 1) := dk_62 (dk_at dksX2_passes_0 6 rfl rfl)
theorem dX2_passes_7 : decode cX2_passes 7 = .ok (.iload_n 3, 1) := dk_29 (dk_at dksX2_passes_0 7 rfl rfl)
theorem dX2_passes_8 : decode cX2_passes 8 = .ok (.iload_n 1, 1) := dk_27 (dk_at dksX2_passes_0 8 rfl rfl)
theorem dX2_passes_9 : decode cX2_passes 9 = .ok (.if_icmp .ge 54, 3) := dk_162 0 54 (dk_at dksX2_passes_0 9 rfl rfl)
theorem dX2_passes_12 : decode cX2_passes 12 = .ok (.iconst 0, 1) := dk_3 (dk_at dksX2_passes_0 12 rfl rfl)
theorem dX2_passes_13 : decode cX2_passes 13 = .ok (.istore 4, 2) := dk_54 4 (dk_at dksX2_passes_0 13 rfl rfl)
theorem dX2_passes_15 : decode cX2_passes 15 = .ok (.iload 4, 2) := dk_21 4 (dk_at dksX2_passes_0 15 rfl rfl)
theorem dX2_passes_17 : decode cX2_passes 17 = .ok (.aload_n 0, 1) := dk_42 (dk_at dksX2_passes_0 17 rfl rfl)
theorem dX2_passes_18 : decode cX2_passes 18 = .ok (.getfield 9, 3) := dk_180 0 9 (dk_at dksX2_passes_0 18 rfl rfl)
theorem dX2_passes_21 : decode cX2_passes 21 = .ok (.iconst 3, 1) := dk_6 (dk_at dksX2_passes_0 21 rfl rfl)
theorem dX2_passes_22 : decode cX2_passes 22 = .ok (.iaload, 1) := dk_46 (dk_at dksX2_passes_0 22 rfl rfl)
theorem dX2_passes_23 : decode cX2_passes 23 = .ok (.if_icmp .ge 24, 3) := dk_162 0 24 (dk_at dksX2_passes_1 0 rfl rfl)
theorem dX2_passes_26 : decode cX2_passes 26 = .ok (.aload_n 0, 1) := dk_42 (dk_at dksX2_passes_1 3 rfl rfl)
theorem dX2_passes_27 : decode cX2_passes 27 = .ok (.iload 4, 2) := dk_21 4 (dk_at dksX2_passes_1 4 rfl rfl)
theorem dX2_passes_29 : decode cX2_passes 29 = .ok (.invokevirtual 146, 3) := dk_182 0 146 (dk_at dksX2_passes_1 6 rfl rfl)
theorem dX2_passes_32 : decode cX2_passes 32 = .ok (.ifCond .eq 9, 3) := dk_153 0 9 (dk_at dksX2_passes_1 9 rfl rfl)
theorem dX2_passes_35 : decode cX2_passes 35 = .ok (.aload_n 0, 1) := dk_42 (dk_at dksX2_passes_1 12 rfl rfl)
theorem dX2_passes_36 : decode cX2_passes 36 = .ok (.iload 4, 2) := dk_21 4 (dk_at dksX2_passes_1 13 rfl rfl)
theorem dX2_passes_38 : decode cX2_passes 38 = .ok (.invokevirtual 290, 3) := dk_182 1 34 (dk_at dksX2_passes_1 15 rfl rfl)
theorem dX2_passes_41 : decode cX2_passes 41 = .ok (.iinc 4 1, 3) := dk_132 4 1 (dk_at dksX2_passes_1 18 rfl rfl)
theorem dX2_passes_44 : decode cX2_passes 44 = .ok (.goto (-29), 3) := dk_167 255 227 (dk_at dksX2_passes_1 21 rfl rfl)
theorem dX2_passes_47 : decode cX2_passes 47 = .ok (.aload_n 0, 1) := dk_42 (dk_at dksX2_passes_2 0 rfl rfl)
theorem dX2_passes_48 : decode cX2_passes 48 = .ok (.getfield 9, 3) := dk_180 0 9 (dk_at dksX2_passes_2 1 rfl rfl)
theorem dX2_passes_51 : decode cX2_passes 51 = .ok (.iconst 2, 1) := dk_5 (dk_at dksX2_passes_2 4 rfl rfl)
theorem dX2_passes_52 : decode cX2_passes 52 = .ok (.dup2, 1) := dk_92 (dk_at dksX2_passes_2 5 rfl rfl)
theorem dX2_passes_53 : decode cX2_passes 53 = .ok (.iaload, 1) := dk_46 (dk_at dksX2_passes_2 6 rfl rfl)
theorem dX2_passes_54 : decode cX2_passes 54 = .ok (.iconst 1, 1) := dk_4 (dk_at dksX2_passes_2 7 rfl rfl)
theorem dX2_passes_55 : decode cX2_passes 55 = .ok (.iadd, 1) := dk_96 (dk_at dksX2_passes_2 8 rfl rfl)
theorem dX2_passes_56 : decode cX2_passes 56 = .ok (.iastore, 1) := dk_79 (dk_at dksX2_passes_2 9 rfl rfl)
theorem dX2_passes_57 : decode cX2_passes 57 = .ok (.iinc 3 1, 3) := dk_132 3 1 (dk_at dksX2_passes_2 10 rfl rfl)
theorem dX2_passes_60 : decode cX2_passes 60 = .ok (.goto (-53), 3) := dk_167 255 203 (dk_at dksX2_passes_2 13 rfl rfl)
theorem dX2_passes_63 : decode cX2_passes 63 = .ok (.aload_n 0, 1) := dk_42 (dk_at dksX2_passes_2 16 rfl rfl)
theorem dX2_passes_64 : decode cX2_passes 64 = .ok (.invokevirtual 287, 3) := dk_182 1 31 (dk_at dksX2_passes_2 17 rfl rfl)
theorem dX2_passes_67 : decode cX2_passes 67 = .ok (.iload_n 2, 1) := dk_28 (dk_at dksX2_passes_2 20 rfl rfl)
theorem dX2_passes_68 : decode cX2_passes 68 = .ok (.isub, 1) := dk_100 (dk_at dksX2_passes_2 21 rfl rfl)
theorem dX2_passes_69 : decode cX2_passes 69 = .ok (.ireturn, 1) := dk_172 (dk_at dksX2_passes_2 22 rfl rfl)
abbrev cX2_arrivedMany : ByteArray := prog_12_method_63_code
def yX2_arrivedMany : MethodName := ⟨RX2, "arrivedMany", "()I"⟩
def dkwX2_arrivedMany_1 : List UInt8 := [167, 0, 4, 3, 184, 1, 4, 96, 60, 132, 2, 1, 167, 255, 224, 27, 172]
abbrev dktX2_arrivedMany_1 : List UInt8 := dkwX2_arrivedMany_1 ++ []
def dkwX2_arrivedMany_0 : List UInt8 := [3, 60, 3, 61, 28, 42, 180, 0, 9, 6, 46, 162, 0, 28, 27, 42, 28, 182, 0, 146, 154, 0, 7, 4]
abbrev dktX2_arrivedMany_0 : List UInt8 := dkwX2_arrivedMany_0 ++ dktX2_arrivedMany_1
theorem dksX2_arrivedMany_0 : cX2_arrivedMany.data.toList.drop 0 = dktX2_arrivedMany_0 := by decide +kernel
theorem dksX2_arrivedMany_1 : cX2_arrivedMany.data.toList.drop 24 = dktX2_arrivedMany_1 := dk_seg dksX2_arrivedMany_0 24 rfl rfl
theorem dX2_arrivedMany_0 : decode cX2_arrivedMany 0 = .ok (.iconst 0, 1) := dk_3 (dk_at dksX2_arrivedMany_0 0 rfl rfl)
theorem dX2_arrivedMany_1 : decode cX2_arrivedMany 1 = .ok (.istore_n 1, 1) := dk_60 (dk_at dksX2_arrivedMany_0 1 rfl rfl)
theorem dX2_arrivedMany_2 : decode cX2_arrivedMany 2 = .ok (.iconst 0, 1) := dk_3 (dk_at dksX2_arrivedMany_0 2 rfl rfl)
theorem dX2_arrivedMany_3 : decode cX2_arrivedMany 3 = .ok (.istore_n 2, 1) := dk_61 (dk_at dksX2_arrivedMany_0 3 rfl rfl)
theorem dX2_arrivedMany_4 : decode cX2_arrivedMany 4 = .ok (.iload_n 2, 1) := dk_28 (dk_at dksX2_arrivedMany_0 4 rfl rfl)
theorem dX2_arrivedMany_5 : decode cX2_arrivedMany 5 = .ok (.aload_n 0, 1) := dk_42 (dk_at dksX2_arrivedMany_0 5 rfl rfl)
theorem dX2_arrivedMany_6 : decode cX2_arrivedMany 6 = .ok (.getfield 9, 3) := dk_180 0 9 (dk_at dksX2_arrivedMany_0 6 rfl rfl)
theorem dX2_arrivedMany_9 : decode cX2_arrivedMany 9 = .ok (.iconst 3, 1) := dk_6 (dk_at dksX2_arrivedMany_0 9 rfl rfl)
theorem dX2_arrivedMany_10 : decode cX2_arrivedMany 10 = .ok (.iaload, 1) := dk_46 (dk_at dksX2_arrivedMany_0 10 rfl rfl)
theorem dX2_arrivedMany_11 : decode cX2_arrivedMany 11 = .ok (.if_icmp .ge 28, 3) := dk_162 0 28 (dk_at dksX2_arrivedMany_0 11 rfl rfl)
theorem dX2_arrivedMany_14 : decode cX2_arrivedMany 14 = .ok (.iload_n 1, 1) := dk_27 (dk_at dksX2_arrivedMany_0 14 rfl rfl)
theorem dX2_arrivedMany_15 : decode cX2_arrivedMany 15 = .ok (.aload_n 0, 1) := dk_42 (dk_at dksX2_arrivedMany_0 15 rfl rfl)
theorem dX2_arrivedMany_16 : decode cX2_arrivedMany 16 = .ok (.iload_n 2, 1) := dk_28 (dk_at dksX2_arrivedMany_0 16 rfl rfl)
theorem dX2_arrivedMany_17 : decode cX2_arrivedMany 17 = .ok (.invokevirtual 146, 3) := dk_182 0 146 (dk_at dksX2_arrivedMany_0 17 rfl rfl)
theorem dX2_arrivedMany_20 : decode cX2_arrivedMany 20 = .ok (.ifCond .ne 7, 3) := dk_154 0 7 (dk_at dksX2_arrivedMany_0 20 rfl rfl)
theorem dX2_arrivedMany_23 : decode cX2_arrivedMany 23 = .ok (.iconst 1, 1) := dk_4 (dk_at dksX2_arrivedMany_0 23 rfl rfl)
theorem dX2_arrivedMany_24 : decode cX2_arrivedMany 24 = .ok (.goto 4, 3) := dk_167 0 4 (dk_at dksX2_arrivedMany_1 0 rfl rfl)
theorem dX2_arrivedMany_27 : decode cX2_arrivedMany 27 = .ok (.iconst 0, 1) := dk_3 (dk_at dksX2_arrivedMany_1 3 rfl rfl)
theorem dX2_arrivedMany_28 : decode cX2_arrivedMany 28 = .ok (.invokestatic 260, 3) := dk_184 1 4 (dk_at dksX2_arrivedMany_1 4 rfl rfl)
theorem dX2_arrivedMany_31 : decode cX2_arrivedMany 31 = .ok (.iadd, 1) := dk_96 (dk_at dksX2_arrivedMany_1 7 rfl rfl)
theorem dX2_arrivedMany_32 : decode cX2_arrivedMany 32 = .ok (.istore_n 1, 1) := dk_60 (dk_at dksX2_arrivedMany_1 8 rfl rfl)
theorem dX2_arrivedMany_33 : decode cX2_arrivedMany 33 = .ok (.iinc 2 1, 3) := dk_132 2 1 (dk_at dksX2_arrivedMany_1 9 rfl rfl)
theorem dX2_arrivedMany_36 : decode cX2_arrivedMany 36 = .ok (.goto (-32), 3) := dk_167 255 224 (dk_at dksX2_arrivedMany_1 12 rfl rfl)
theorem dX2_arrivedMany_39 : decode cX2_arrivedMany 39 = .ok (.iload_n 1, 1) := dk_27 (dk_at dksX2_arrivedMany_1 15 rfl rfl)
theorem dX2_arrivedMany_40 : decode cX2_arrivedMany 40 = .ok (.ireturn, 1) := dk_172 (dk_at dksX2_arrivedMany_1 16 rfl rfl)
abbrev cX2_isUnderWay : ByteArray := prog_12_method_57_code
def yX2_isUnderWay : MethodName := ⟨RX2, "isUnderWay", "(I)Z"⟩
def dkwX2_isUnderWay_0 : List UInt8 := [42, 27, 7, 182, 0, 238, 2, 160, 0, 7, 4, 167, 0, 4, 3, 172]
abbrev dktX2_isUnderWay_0 : List UInt8 := dkwX2_isUnderWay_0 ++ []
theorem dksX2_isUnderWay_0 : cX2_isUnderWay.data.toList.drop 0 = dktX2_isUnderWay_0 := by decide +kernel
theorem dX2_isUnderWay_0 : decode cX2_isUnderWay 0 = .ok (.aload_n 0, 1) := dk_42 (dk_at dksX2_isUnderWay_0 0 rfl rfl)
theorem dX2_isUnderWay_1 : decode cX2_isUnderWay 1 = .ok (.iload_n 1, 1) := dk_27 (dk_at dksX2_isUnderWay_0 1 rfl rfl)
theorem dX2_isUnderWay_2 : decode cX2_isUnderWay 2 = .ok (.iconst 4, 1) := dk_7 (dk_at dksX2_isUnderWay_0 2 rfl rfl)
theorem dX2_isUnderWay_3 : decode cX2_isUnderWay 3 = .ok (.invokevirtual 238, 3) := dk_182 0 238 (dk_at dksX2_isUnderWay_0 3 rfl rfl)
theorem dX2_isUnderWay_6 : decode cX2_isUnderWay 6 = .ok (.iconst (-1), 1) := dk_2 (dk_at dksX2_isUnderWay_0 6 rfl rfl)
theorem dX2_isUnderWay_7 : decode cX2_isUnderWay 7 = .ok (.if_icmp .ne 7, 3) := dk_160 0 7 (dk_at dksX2_isUnderWay_0 7 rfl rfl)
theorem dX2_isUnderWay_10 : decode cX2_isUnderWay 10 = .ok (.iconst 1, 1) := dk_4 (dk_at dksX2_isUnderWay_0 10 rfl rfl)
theorem dX2_isUnderWay_11 : decode cX2_isUnderWay 11 = .ok (.goto 4, 3) := dk_167 0 4 (dk_at dksX2_isUnderWay_0 11 rfl rfl)
theorem dX2_isUnderWay_14 : decode cX2_isUnderWay 14 = .ok (.iconst 0, 1) := dk_3 (dk_at dksX2_isUnderWay_0 14 rfl rfl)
theorem dX2_isUnderWay_15 : decode cX2_isUnderWay 15 = .ok (.ireturn, 1) := dk_172 (dk_at dksX2_isUnderWay_0 15 rfl rfl)
abbrev cX2_one : ByteArray := prog_12_method_4_code
def yX2_one : MethodName := ⟨RX2, "one", "(Z)I"⟩
def dkwX2_one_0 : List UInt8 := [26, 153, 0, 7, 4, 167, 0, 4, 3, 172]
abbrev dktX2_one_0 : List UInt8 := dkwX2_one_0 ++ []
theorem dksX2_one_0 : cX2_one.data.toList.drop 0 = dktX2_one_0 := by decide +kernel
theorem dX2_one_0 : decode cX2_one 0 = .ok (.iload_n 0, 1) := dk_26 (dk_at dksX2_one_0 0 rfl rfl)
theorem dX2_one_1 : decode cX2_one 1 = .ok (.ifCond .eq 7, 3) := dk_153 0 7 (dk_at dksX2_one_0 1 rfl rfl)
theorem dX2_one_4 : decode cX2_one 4 = .ok (.iconst 1, 1) := dk_4 (dk_at dksX2_one_0 4 rfl rfl)
theorem dX2_one_5 : decode cX2_one 5 = .ok (.goto 4, 3) := dk_167 0 4 (dk_at dksX2_one_0 5 rfl rfl)
theorem dX2_one_8 : decode cX2_one 8 = .ok (.iconst 0, 1) := dk_3 (dk_at dksX2_one_0 8 rfl rfl)
theorem dX2_one_9 : decode cX2_one 9 = .ok (.ireturn, 1) := dk_172 (dk_at dksX2_one_0 9 rfl rfl)
abbrev cX2_moves : ByteArray := prog_12_method_62_code
def yX2_moves : MethodName := ⟨RX2, "moves", "(I)V"⟩
def dkwX2_moves_2 : List UInt8 := [180, 0, 9, 5, 46, 182, 0, 241, 42, 6, 27, 182, 0, 188, 177]
abbrev dktX2_moves_2 : List UInt8 := dkwX2_moves_2 ++ []
def dkwX2_moves_1 : List UInt8 := [182, 1, 17, 162, 0, 8, 42, 27, 182, 1, 25, 42, 27, 182, 1, 28, 154, 0, 4, 177, 42, 27, 7, 42]
abbrev dktX2_moves_1 : List UInt8 := dkwX2_moves_1 ++ dktX2_moves_2
def dkwX2_moves_0 : List UInt8 := [42, 27, 182, 1, 20, 153, 0, 11, 42, 27, 182, 1, 23, 167, 0, 21, 42, 27, 4, 182, 0, 238, 42]
abbrev dktX2_moves_0 : List UInt8 := dkwX2_moves_0 ++ dktX2_moves_1
theorem dksX2_moves_0 : cX2_moves.data.toList.drop 0 = dktX2_moves_0 := by decide +kernel
theorem dksX2_moves_1 : cX2_moves.data.toList.drop 23 = dktX2_moves_1 := dk_seg dksX2_moves_0 23 rfl rfl
theorem dksX2_moves_2 : cX2_moves.data.toList.drop 47 = dktX2_moves_2 := dk_seg dksX2_moves_1 24 rfl rfl
theorem dX2_moves_0 : decode cX2_moves 0 = .ok (.aload_n 0, 1) := dk_42 (dk_at dksX2_moves_0 0 rfl rfl)
theorem dX2_moves_1 : decode cX2_moves 1 = .ok (.iload_n 1, 1) := dk_27 (dk_at dksX2_moves_0 1 rfl rfl)
theorem dX2_moves_2 : decode cX2_moves 2 = .ok (.invokevirtual 276, 3) := dk_182 1 20 (dk_at dksX2_moves_0 2 rfl rfl)
theorem dX2_moves_5 : decode cX2_moves 5 = .ok (.ifCond .eq 11, 3) := dk_153 0 11 (dk_at dksX2_moves_0 5 rfl rfl)
theorem dX2_moves_8 : decode cX2_moves 8 = .ok (.aload_n 0, 1) := dk_42 (dk_at dksX2_moves_0 8 rfl rfl)
theorem dX2_moves_9 : decode cX2_moves 9 = .ok (.iload_n 1, 1) := dk_27 (dk_at dksX2_moves_0 9 rfl rfl)
theorem dX2_moves_10 : decode cX2_moves 10 = .ok (.invokevirtual 279, 3) := dk_182 1 23 (dk_at dksX2_moves_0 10 rfl rfl)
theorem dX2_moves_13 : decode cX2_moves 13 = .ok (.goto 21, 3) := dk_167 0 21 (dk_at dksX2_moves_0 13 rfl rfl)
theorem dX2_moves_16 : decode cX2_moves 16 = .ok (.aload_n 0, 1) := dk_42 (dk_at dksX2_moves_0 16 rfl rfl)
theorem dX2_moves_17 : decode cX2_moves 17 = .ok (.iload_n 1, 1) := dk_27 (dk_at dksX2_moves_0 17 rfl rfl)
theorem dX2_moves_18 : decode cX2_moves 18 = .ok (.iconst 1, 1) := dk_4 (dk_at dksX2_moves_0 18 rfl rfl)
theorem dX2_moves_19 : decode cX2_moves 19 = .ok (.invokevirtual 238, 3) := dk_182 0 238 (dk_at dksX2_moves_0 19 rfl rfl)
theorem dX2_moves_22 : decode cX2_moves 22 = .ok (.aload_n 0, 1) := dk_42 (dk_at dksX2_moves_0 22 rfl rfl)
theorem dX2_moves_23 : decode cX2_moves 23 = .ok (.invokevirtual 273, 3) := dk_182 1 17 (dk_at dksX2_moves_1 0 rfl rfl)
theorem dX2_moves_26 : decode cX2_moves 26 = .ok (.if_icmp .ge 8, 3) := dk_162 0 8 (dk_at dksX2_moves_1 3 rfl rfl)
theorem dX2_moves_29 : decode cX2_moves 29 = .ok (.aload_n 0, 1) := dk_42 (dk_at dksX2_moves_1 6 rfl rfl)
theorem dX2_moves_30 : decode cX2_moves 30 = .ok (.iload_n 1, 1) := dk_27 (dk_at dksX2_moves_1 7 rfl rfl)
theorem dX2_moves_31 : decode cX2_moves 31 = .ok (.invokevirtual 281, 3) := dk_182 1 25 (dk_at dksX2_moves_1 8 rfl rfl)
theorem dX2_moves_34 : decode cX2_moves 34 = .ok (.aload_n 0, 1) := dk_42 (dk_at dksX2_moves_1 11 rfl rfl)
theorem dX2_moves_35 : decode cX2_moves 35 = .ok (.iload_n 1, 1) := dk_27 (dk_at dksX2_moves_1 12 rfl rfl)
theorem dX2_moves_36 : decode cX2_moves 36 = .ok (.invokevirtual 284, 3) := dk_182 1 28 (dk_at dksX2_moves_1 13 rfl rfl)
theorem dX2_moves_39 : decode cX2_moves 39 = .ok (.ifCond .ne 4, 3) := dk_154 0 4 (dk_at dksX2_moves_1 16 rfl rfl)
theorem dX2_moves_42 : decode cX2_moves 42 = .ok (.return_, 1) := dk_177 (dk_at dksX2_moves_1 19 rfl rfl)
theorem dX2_moves_43 : decode cX2_moves 43 = .ok (.aload_n 0, 1) := dk_42 (dk_at dksX2_moves_1 20 rfl rfl)
theorem dX2_moves_44 : decode cX2_moves 44 = .ok (.iload_n 1, 1) := dk_27 (dk_at dksX2_moves_1 21 rfl rfl)
theorem dX2_moves_45 : decode cX2_moves 45 = .ok (.iconst 4, 1) := dk_7 (dk_at dksX2_moves_1 22 rfl rfl)
theorem dX2_moves_46 : decode cX2_moves 46 = .ok (.aload_n 0, 1) := dk_42 (dk_at dksX2_moves_1 23 rfl rfl)
theorem dX2_moves_47 : decode cX2_moves 47 = .ok (.getfield 9, 3) := dk_180 0 9 (dk_at dksX2_moves_2 0 rfl rfl)
theorem dX2_moves_50 : decode cX2_moves 50 = .ok (.iconst 2, 1) := dk_5 (dk_at dksX2_moves_2 3 rfl rfl)
theorem dX2_moves_51 : decode cX2_moves 51 = .ok (.iaload, 1) := dk_46 (dk_at dksX2_moves_2 4 rfl rfl)
theorem dX2_moves_52 : decode cX2_moves 52 = .ok (.invokevirtual 241, 3) := dk_182 0 241 (dk_at dksX2_moves_2 5 rfl rfl)
theorem dX2_moves_55 : decode cX2_moves 55 = .ok (.aload_n 0, 1) := dk_42 (dk_at dksX2_moves_2 8 rfl rfl)
theorem dX2_moves_56 : decode cX2_moves 56 = .ok (.iconst 3, 1) := dk_6 (dk_at dksX2_moves_2 9 rfl rfl)
theorem dX2_moves_57 : decode cX2_moves 57 = .ok (.iload_n 1, 1) := dk_27 (dk_at dksX2_moves_2 10 rfl rfl)
theorem dX2_moves_58 : decode cX2_moves 58 = .ok (.invokevirtual 188, 3) := dk_182 0 188 (dk_at dksX2_moves_2 11 rfl rfl)
theorem dX2_moves_61 : decode cX2_moves 61 = .ok (.return_, 1) := dk_177 (dk_at dksX2_moves_2 14 rfl rfl)
abbrev cX2_willAsk : ByteArray := prog_12_method_58_code
def yX2_willAsk : MethodName := ⟨RX2, "willAsk", "(I)Z"⟩
def dkwX2_willAsk_1 : List UInt8 := [42, 27, 182, 1, 11, 158, 0, 7, 4, 167, 0, 4, 3, 172]
abbrev dktX2_willAsk_1 : List UInt8 := dkwX2_willAsk_1 ++ []
def dkwX2_willAsk_0 : List UInt8 := [42, 27, 4, 182, 0, 238, 158, 0, 30, 42, 27, 5, 182, 0, 238, 42, 180, 0, 9, 4, 46, 162, 0, 15]
abbrev dktX2_willAsk_0 : List UInt8 := dkwX2_willAsk_0 ++ dktX2_willAsk_1
theorem dksX2_willAsk_0 : cX2_willAsk.data.toList.drop 0 = dktX2_willAsk_0 := by decide +kernel
theorem dksX2_willAsk_1 : cX2_willAsk.data.toList.drop 24 = dktX2_willAsk_1 := dk_seg dksX2_willAsk_0 24 rfl rfl
theorem dX2_willAsk_0 : decode cX2_willAsk 0 = .ok (.aload_n 0, 1) := dk_42 (dk_at dksX2_willAsk_0 0 rfl rfl)
theorem dX2_willAsk_1 : decode cX2_willAsk 1 = .ok (.iload_n 1, 1) := dk_27 (dk_at dksX2_willAsk_0 1 rfl rfl)
theorem dX2_willAsk_2 : decode cX2_willAsk 2 = .ok (.iconst 1, 1) := dk_4 (dk_at dksX2_willAsk_0 2 rfl rfl)
theorem dX2_willAsk_3 : decode cX2_willAsk 3 = .ok (.invokevirtual 238, 3) := dk_182 0 238 (dk_at dksX2_willAsk_0 3 rfl rfl)
theorem dX2_willAsk_6 : decode cX2_willAsk 6 = .ok (.ifCond .le 30, 3) := dk_158 0 30 (dk_at dksX2_willAsk_0 6 rfl rfl)
theorem dX2_willAsk_9 : decode cX2_willAsk 9 = .ok (.aload_n 0, 1) := dk_42 (dk_at dksX2_willAsk_0 9 rfl rfl)
theorem dX2_willAsk_10 : decode cX2_willAsk 10 = .ok (.iload_n 1, 1) := dk_27 (dk_at dksX2_willAsk_0 10 rfl rfl)
theorem dX2_willAsk_11 : decode cX2_willAsk 11 = .ok (.iconst 2, 1) := dk_5 (dk_at dksX2_willAsk_0 11 rfl rfl)
theorem dX2_willAsk_12 : decode cX2_willAsk 12 = .ok (.invokevirtual 238, 3) := dk_182 0 238 (dk_at dksX2_willAsk_0 12 rfl rfl)
theorem dX2_willAsk_15 : decode cX2_willAsk 15 = .ok (.aload_n 0, 1) := dk_42 (dk_at dksX2_willAsk_0 15 rfl rfl)
theorem dX2_willAsk_16 : decode cX2_willAsk 16 = .ok (.getfield 9, 3) := dk_180 0 9 (dk_at dksX2_willAsk_0 16 rfl rfl)
theorem dX2_willAsk_19 : decode cX2_willAsk 19 = .ok (.iconst 1, 1) := dk_4 (dk_at dksX2_willAsk_0 19 rfl rfl)
theorem dX2_willAsk_20 : decode cX2_willAsk 20 = .ok (.iaload, 1) := dk_46 (dk_at dksX2_willAsk_0 20 rfl rfl)
theorem dX2_willAsk_21 : decode cX2_willAsk 21 = .ok (.if_icmp .ge 15, 3) := dk_162 0 15 (dk_at dksX2_willAsk_0 21 rfl rfl)
theorem dX2_willAsk_24 : decode cX2_willAsk 24 = .ok (.aload_n 0, 1) := dk_42 (dk_at dksX2_willAsk_1 0 rfl rfl)
theorem dX2_willAsk_25 : decode cX2_willAsk 25 = .ok (.iload_n 1, 1) := dk_27 (dk_at dksX2_willAsk_1 1 rfl rfl)
theorem dX2_willAsk_26 : decode cX2_willAsk 26 = .ok (.invokevirtual 267, 3) := dk_182 1 11 (dk_at dksX2_willAsk_1 2 rfl rfl)
theorem dX2_willAsk_29 : decode cX2_willAsk 29 = .ok (.ifCond .le 7, 3) := dk_158 0 7 (dk_at dksX2_willAsk_1 5 rfl rfl)
theorem dX2_willAsk_32 : decode cX2_willAsk 32 = .ok (.iconst 1, 1) := dk_4 (dk_at dksX2_willAsk_1 8 rfl rfl)
theorem dX2_willAsk_33 : decode cX2_willAsk 33 = .ok (.goto 4, 3) := dk_167 0 4 (dk_at dksX2_willAsk_1 9 rfl rfl)
theorem dX2_willAsk_36 : decode cX2_willAsk 36 = .ok (.iconst 0, 1) := dk_3 (dk_at dksX2_willAsk_1 12 rfl rfl)
theorem dX2_willAsk_37 : decode cX2_willAsk 37 = .ok (.ireturn, 1) := dk_172 (dk_at dksX2_willAsk_1 13 rfl rfl)
abbrev cX2_unsureAll : ByteArray := prog_12_method_56_code
def yX2_unsureAll : MethodName := ⟨RX2, "unsureAll", "(I)I"⟩
def dkwX2_unsureAll_0 : List UInt8 := [42, 27, 3, 182, 1, 8, 42, 27, 4, 182, 1, 8, 96, 42, 27, 5, 182, 1, 8, 96, 172]
abbrev dktX2_unsureAll_0 : List UInt8 := dkwX2_unsureAll_0 ++ []
theorem dksX2_unsureAll_0 : cX2_unsureAll.data.toList.drop 0 = dktX2_unsureAll_0 := by decide +kernel
theorem dX2_unsureAll_0 : decode cX2_unsureAll 0 = .ok (.aload_n 0, 1) := dk_42 (dk_at dksX2_unsureAll_0 0 rfl rfl)
theorem dX2_unsureAll_1 : decode cX2_unsureAll 1 = .ok (.iload_n 1, 1) := dk_27 (dk_at dksX2_unsureAll_0 1 rfl rfl)
theorem dX2_unsureAll_2 : decode cX2_unsureAll 2 = .ok (.iconst 0, 1) := dk_3 (dk_at dksX2_unsureAll_0 2 rfl rfl)
theorem dX2_unsureAll_3 : decode cX2_unsureAll 3 = .ok (.invokevirtual 264, 3) := dk_182 1 8 (dk_at dksX2_unsureAll_0 3 rfl rfl)
theorem dX2_unsureAll_6 : decode cX2_unsureAll 6 = .ok (.aload_n 0, 1) := dk_42 (dk_at dksX2_unsureAll_0 6 rfl rfl)
theorem dX2_unsureAll_7 : decode cX2_unsureAll 7 = .ok (.iload_n 1, 1) := dk_27 (dk_at dksX2_unsureAll_0 7 rfl rfl)
theorem dX2_unsureAll_8 : decode cX2_unsureAll 8 = .ok (.iconst 1, 1) := dk_4 (dk_at dksX2_unsureAll_0 8 rfl rfl)
theorem dX2_unsureAll_9 : decode cX2_unsureAll 9 = .ok (.invokevirtual 264, 3) := dk_182 1 8 (dk_at dksX2_unsureAll_0 9 rfl rfl)
theorem dX2_unsureAll_12 : decode cX2_unsureAll 12 = .ok (.iadd, 1) := dk_96 (dk_at dksX2_unsureAll_0 12 rfl rfl)
theorem dX2_unsureAll_13 : decode cX2_unsureAll 13 = .ok (.aload_n 0, 1) := dk_42 (dk_at dksX2_unsureAll_0 13 rfl rfl)
theorem dX2_unsureAll_14 : decode cX2_unsureAll 14 = .ok (.iload_n 1, 1) := dk_27 (dk_at dksX2_unsureAll_0 14 rfl rfl)
theorem dX2_unsureAll_15 : decode cX2_unsureAll 15 = .ok (.iconst 2, 1) := dk_5 (dk_at dksX2_unsureAll_0 15 rfl rfl)
theorem dX2_unsureAll_16 : decode cX2_unsureAll 16 = .ok (.invokevirtual 264, 3) := dk_182 1 8 (dk_at dksX2_unsureAll_0 16 rfl rfl)
theorem dX2_unsureAll_19 : decode cX2_unsureAll 19 = .ok (.iadd, 1) := dk_96 (dk_at dksX2_unsureAll_0 19 rfl rfl)
theorem dX2_unsureAll_20 : decode cX2_unsureAll 20 = .ok (.ireturn, 1) := dk_172 (dk_at dksX2_unsureAll_0 20 rfl rfl)
abbrev cX2_unsureOf : ByteArray := prog_12_method_55_code
def yX2_unsureOf : MethodName := ⟨RX2, "unsureOf", "(II)I"⟩
def dkwX2_unsureOf_2 : List UInt8 := [172]
abbrev dktX2_unsureOf_2 : List UInt8 := dkwX2_unsureOf_2 ++ []
def dkwX2_unsureOf_1 : List UInt8 := [182, 1, 1, 2, 160, 0, 7, 4, 167, 0, 4, 3, 184, 1, 4, 96, 62, 132, 4, 1, 167, 255, 219, 29]
abbrev dktX2_unsureOf_1 : List UInt8 := dkwX2_unsureOf_1 ++ dktX2_unsureOf_2
def dkwX2_unsureOf_0 : List UInt8 := [3, 62, 3, 54, 4, 21, 4, 42, 27, 3, 182, 0, 238, 162, 0, 32, 29, 42, 27, 28, 21, 4]
abbrev dktX2_unsureOf_0 : List UInt8 := dkwX2_unsureOf_0 ++ dktX2_unsureOf_1
theorem dksX2_unsureOf_0 : cX2_unsureOf.data.toList.drop 0 = dktX2_unsureOf_0 := by decide +kernel
theorem dksX2_unsureOf_1 : cX2_unsureOf.data.toList.drop 22 = dktX2_unsureOf_1 := dk_seg dksX2_unsureOf_0 22 rfl rfl
theorem dksX2_unsureOf_2 : cX2_unsureOf.data.toList.drop 46 = dktX2_unsureOf_2 := dk_seg dksX2_unsureOf_1 24 rfl rfl
theorem dX2_unsureOf_0 : decode cX2_unsureOf 0 = .ok (.iconst 0, 1) := dk_3 (dk_at dksX2_unsureOf_0 0 rfl rfl)
theorem dX2_unsureOf_1 : decode cX2_unsureOf 1 = .ok (.istore_n 3, 1) := dk_62 (dk_at dksX2_unsureOf_0 1 rfl rfl)
theorem dX2_unsureOf_2 : decode cX2_unsureOf 2 = .ok (.iconst 0, 1) := dk_3 (dk_at dksX2_unsureOf_0 2 rfl rfl)
theorem dX2_unsureOf_3 : decode cX2_unsureOf 3 = .ok (.istore 4, 2) := dk_54 4 (dk_at dksX2_unsureOf_0 3 rfl rfl)
theorem dX2_unsureOf_5 : decode cX2_unsureOf 5 = .ok (.iload 4, 2) := dk_21 4 (dk_at dksX2_unsureOf_0 5 rfl rfl)
theorem dX2_unsureOf_7 : decode cX2_unsureOf 7 = .ok (.aload_n 0, 1) := dk_42 (dk_at dksX2_unsureOf_0 7 rfl rfl)
theorem dX2_unsureOf_8 : decode cX2_unsureOf 8 = .ok (.iload_n 1, 1) := dk_27 (dk_at dksX2_unsureOf_0 8 rfl rfl)
theorem dX2_unsureOf_9 : decode cX2_unsureOf 9 = .ok (.iconst 0, 1) := dk_3 (dk_at dksX2_unsureOf_0 9 rfl rfl)
theorem dX2_unsureOf_10 : decode cX2_unsureOf 10 = .ok (.invokevirtual 238, 3) := dk_182 0 238 (dk_at dksX2_unsureOf_0 10 rfl rfl)
theorem dX2_unsureOf_13 : decode cX2_unsureOf 13 = .ok (.if_icmp .ge 32, 3) := dk_162 0 32 (dk_at dksX2_unsureOf_0 13 rfl rfl)
theorem dX2_unsureOf_16 : decode cX2_unsureOf 16 = .ok (.iload_n 3, 1) := dk_29 (dk_at dksX2_unsureOf_0 16 rfl rfl)
theorem dX2_unsureOf_17 : decode cX2_unsureOf 17 = .ok (.aload_n 0, 1) := dk_42 (dk_at dksX2_unsureOf_0 17 rfl rfl)
theorem dX2_unsureOf_18 : decode cX2_unsureOf 18 = .ok (.iload_n 1, 1) := dk_27 (dk_at dksX2_unsureOf_0 18 rfl rfl)
theorem dX2_unsureOf_19 : decode cX2_unsureOf 19 = .ok (.iload_n 2, 1) := dk_28 (dk_at dksX2_unsureOf_0 19 rfl rfl)
theorem dX2_unsureOf_20 : decode cX2_unsureOf 20 = .ok (.iload 4, 2) := dk_21 4 (dk_at dksX2_unsureOf_0 20 rfl rfl)
theorem dX2_unsureOf_22 : decode cX2_unsureOf 22 = .ok (.invokevirtual 257, 3) := dk_182 1 1 (dk_at dksX2_unsureOf_1 0 rfl rfl)
theorem dX2_unsureOf_25 : decode cX2_unsureOf 25 = .ok (.iconst (-1), 1) := dk_2 (dk_at dksX2_unsureOf_1 3 rfl rfl)
theorem dX2_unsureOf_26 : decode cX2_unsureOf 26 = .ok (.if_icmp .ne 7, 3) := dk_160 0 7 (dk_at dksX2_unsureOf_1 4 rfl rfl)
theorem dX2_unsureOf_29 : decode cX2_unsureOf 29 = .ok (.iconst 1, 1) := dk_4 (dk_at dksX2_unsureOf_1 7 rfl rfl)
theorem dX2_unsureOf_30 : decode cX2_unsureOf 30 = .ok (.goto 4, 3) := dk_167 0 4 (dk_at dksX2_unsureOf_1 8 rfl rfl)
theorem dX2_unsureOf_33 : decode cX2_unsureOf 33 = .ok (.iconst 0, 1) := dk_3 (dk_at dksX2_unsureOf_1 11 rfl rfl)
theorem dX2_unsureOf_34 : decode cX2_unsureOf 34 = .ok (.invokestatic 260, 3) := dk_184 1 4 (dk_at dksX2_unsureOf_1 12 rfl rfl)
theorem dX2_unsureOf_37 : decode cX2_unsureOf 37 = .ok (.iadd, 1) := dk_96 (dk_at dksX2_unsureOf_1 15 rfl rfl)
theorem dX2_unsureOf_38 : decode cX2_unsureOf 38 = .ok (.istore_n 3, 1) := dk_62 (dk_at dksX2_unsureOf_1 16 rfl rfl)
theorem dX2_unsureOf_39 : decode cX2_unsureOf 39 = .ok (.iinc 4 1, 3) := dk_132 4 1 (dk_at dksX2_unsureOf_1 17 rfl rfl)
theorem dX2_unsureOf_42 : decode cX2_unsureOf 42 = .ok (.goto (-37), 3) := dk_167 255 219 (dk_at dksX2_unsureOf_1 20 rfl rfl)
theorem dX2_unsureOf_45 : decode cX2_unsureOf 45 = .ok (.iload_n 3, 1) := dk_29 (dk_at dksX2_unsureOf_1 23 rfl rfl)
theorem dX2_unsureOf_46 : decode cX2_unsureOf 46 = .ok (.ireturn, 1) := dk_172 (dk_at dksX2_unsureOf_2 0 rfl rfl)
abbrev cX2_hasAt : ByteArray := prog_12_method_46_code
def yX2_hasAt : MethodName := ⟨RX2, "hasAt", "(III)I"⟩
def dkwX2_hasAt_0 : List UInt8 := [42, 27, 16, 17, 16, 12, 28, 104, 96, 29, 96, 182, 0, 238, 172]
abbrev dktX2_hasAt_0 : List UInt8 := dkwX2_hasAt_0 ++ []
theorem dksX2_hasAt_0 : cX2_hasAt.data.toList.drop 0 = dktX2_hasAt_0 := by decide +kernel
theorem dX2_hasAt_0 : decode cX2_hasAt 0 = .ok (.aload_n 0, 1) := dk_42 (dk_at dksX2_hasAt_0 0 rfl rfl)
theorem dX2_hasAt_1 : decode cX2_hasAt 1 = .ok (.iload_n 1, 1) := dk_27 (dk_at dksX2_hasAt_0 1 rfl rfl)
theorem dX2_hasAt_2 : decode cX2_hasAt 2 = .ok (.bipush 17, 2) := dk_16 17 (dk_at dksX2_hasAt_0 2 rfl rfl)
theorem dX2_hasAt_4 : decode cX2_hasAt 4 = .ok (.bipush 12, 2) := dk_16 12 (dk_at dksX2_hasAt_0 4 rfl rfl)
theorem dX2_hasAt_6 : decode cX2_hasAt 6 = .ok (.iload_n 2, 1) := dk_28 (dk_at dksX2_hasAt_0 6 rfl rfl)
theorem dX2_hasAt_7 : decode cX2_hasAt 7 = .ok (.imul, 1) := dk_104 (dk_at dksX2_hasAt_0 7 rfl rfl)
theorem dX2_hasAt_8 : decode cX2_hasAt 8 = .ok (.iadd, 1) := dk_96 (dk_at dksX2_hasAt_0 8 rfl rfl)
theorem dX2_hasAt_9 : decode cX2_hasAt 9 = .ok (.iload_n 3, 1) := dk_29 (dk_at dksX2_hasAt_0 9 rfl rfl)
theorem dX2_hasAt_10 : decode cX2_hasAt 10 = .ok (.iadd, 1) := dk_96 (dk_at dksX2_hasAt_0 10 rfl rfl)
theorem dX2_hasAt_11 : decode cX2_hasAt 11 = .ok (.invokevirtual 238, 3) := dk_182 0 238 (dk_at dksX2_hasAt_0 11 rfl rfl)
theorem dX2_hasAt_14 : decode cX2_hasAt 14 = .ok (.ireturn, 1) := dk_172 (dk_at dksX2_hasAt_0 14 rfl rfl)
abbrev cX2_asks : ByteArray := prog_12_method_59_code
def yX2_asks : MethodName := ⟨RX2, "asks", "(I)V"⟩
def dkwX2_asks_3 : List UInt8 := [182, 0, 238, 4, 96, 182, 0, 241, 42, 5, 27, 182, 0, 188, 177]
abbrev dktX2_asks_3 : List UInt8 := dkwX2_asks_3 ++ []
def dkwX2_asks_2 : List UInt8 := [29, 182, 1, 14, 132, 3, 1, 167, 255, 211, 132, 2, 1, 167, 255, 198, 42, 27, 5, 42, 27, 5]
abbrev dktX2_asks_2 : List UInt8 := dkwX2_asks_2 ++ dktX2_asks_3
def dkwX2_asks_1 : List UInt8 := [182, 1, 1, 2, 159, 0, 6, 167, 0, 21, 42, 180, 0, 9, 16, 8, 92, 46, 4, 96, 79, 42, 27, 28]
abbrev dktX2_asks_1 : List UInt8 := dkwX2_asks_1 ++ dktX2_asks_2
def dkwX2_asks_0 : List UInt8 := [3, 61, 28, 6, 162, 0, 59, 3, 62, 29, 42, 27, 3, 182, 0, 238, 162, 0, 41, 42, 27, 28, 29]
abbrev dktX2_asks_0 : List UInt8 := dkwX2_asks_0 ++ dktX2_asks_1
theorem dksX2_asks_0 : cX2_asks.data.toList.drop 0 = dktX2_asks_0 := by decide +kernel
theorem dksX2_asks_1 : cX2_asks.data.toList.drop 23 = dktX2_asks_1 := dk_seg dksX2_asks_0 23 rfl rfl
theorem dksX2_asks_2 : cX2_asks.data.toList.drop 47 = dktX2_asks_2 := dk_seg dksX2_asks_1 24 rfl rfl
theorem dksX2_asks_3 : cX2_asks.data.toList.drop 69 = dktX2_asks_3 := dk_seg dksX2_asks_2 22 rfl rfl
theorem dX2_asks_0 : decode cX2_asks 0 = .ok (.iconst 0, 1) := dk_3 (dk_at dksX2_asks_0 0 rfl rfl)
theorem dX2_asks_1 : decode cX2_asks 1 = .ok (.istore_n 2, 1) := dk_61 (dk_at dksX2_asks_0 1 rfl rfl)
theorem dX2_asks_2 : decode cX2_asks 2 = .ok (.iload_n 2, 1) := dk_28 (dk_at dksX2_asks_0 2 rfl rfl)
theorem dX2_asks_3 : decode cX2_asks 3 = .ok (.iconst 3, 1) := dk_6 (dk_at dksX2_asks_0 3 rfl rfl)
theorem dX2_asks_4 : decode cX2_asks 4 = .ok (.if_icmp .ge 59, 3) := dk_162 0 59 (dk_at dksX2_asks_0 4 rfl rfl)
theorem dX2_asks_7 : decode cX2_asks 7 = .ok (.iconst 0, 1) := dk_3 (dk_at dksX2_asks_0 7 rfl rfl)
theorem dX2_asks_8 : decode cX2_asks 8 = .ok (.istore_n 3, 1) := dk_62 (dk_at dksX2_asks_0 8 rfl rfl)
theorem dX2_asks_9 : decode cX2_asks 9 = .ok (.iload_n 3, 1) := dk_29 (dk_at dksX2_asks_0 9 rfl rfl)
theorem dX2_asks_10 : decode cX2_asks 10 = .ok (.aload_n 0, 1) := dk_42 (dk_at dksX2_asks_0 10 rfl rfl)
theorem dX2_asks_11 : decode cX2_asks 11 = .ok (.iload_n 1, 1) := dk_27 (dk_at dksX2_asks_0 11 rfl rfl)
theorem dX2_asks_12 : decode cX2_asks 12 = .ok (.iconst 0, 1) := dk_3 (dk_at dksX2_asks_0 12 rfl rfl)
theorem dX2_asks_13 : decode cX2_asks 13 = .ok (.invokevirtual 238, 3) := dk_182 0 238 (dk_at dksX2_asks_0 13 rfl rfl)
theorem dX2_asks_16 : decode cX2_asks 16 = .ok (.if_icmp .ge 41, 3) := dk_162 0 41 (dk_at dksX2_asks_0 16 rfl rfl)
theorem dX2_asks_19 : decode cX2_asks 19 = .ok (.aload_n 0, 1) := dk_42 (dk_at dksX2_asks_0 19 rfl rfl)
theorem dX2_asks_20 : decode cX2_asks 20 = .ok (.iload_n 1, 1) := dk_27 (dk_at dksX2_asks_0 20 rfl rfl)
theorem dX2_asks_21 : decode cX2_asks 21 = .ok (.iload_n 2, 1) := dk_28 (dk_at dksX2_asks_0 21 rfl rfl)
theorem dX2_asks_22 : decode cX2_asks 22 = .ok (.iload_n 3, 1) := dk_29 (dk_at dksX2_asks_0 22 rfl rfl)
theorem dX2_asks_23 : decode cX2_asks 23 = .ok (.invokevirtual 257, 3) := dk_182 1 1 (dk_at dksX2_asks_1 0 rfl rfl)
theorem dX2_asks_26 : decode cX2_asks 26 = .ok (.iconst (-1), 1) := dk_2 (dk_at dksX2_asks_1 3 rfl rfl)
theorem dX2_asks_27 : decode cX2_asks 27 = .ok (.if_icmp .eq 6, 3) := dk_159 0 6 (dk_at dksX2_asks_1 4 rfl rfl)
theorem dX2_asks_30 : decode cX2_asks 30 = .ok (.goto 21, 3) := dk_167 0 21 (dk_at dksX2_asks_1 7 rfl rfl)
theorem dX2_asks_33 : decode cX2_asks 33 = .ok (.aload_n 0, 1) := dk_42 (dk_at dksX2_asks_1 10 rfl rfl)
theorem dX2_asks_34 : decode cX2_asks 34 = .ok (.getfield 9, 3) := dk_180 0 9 (dk_at dksX2_asks_1 11 rfl rfl)
theorem dX2_asks_37 : decode cX2_asks 37 = .ok (.bipush 8, 2) := dk_16 8 (dk_at dksX2_asks_1 14 rfl rfl)
theorem dX2_asks_39 : decode cX2_asks 39 = .ok (.dup2, 1) := dk_92 (dk_at dksX2_asks_1 16 rfl rfl)
theorem dX2_asks_40 : decode cX2_asks 40 = .ok (.iaload, 1) := dk_46 (dk_at dksX2_asks_1 17 rfl rfl)
theorem dX2_asks_41 : decode cX2_asks 41 = .ok (.iconst 1, 1) := dk_4 (dk_at dksX2_asks_1 18 rfl rfl)
theorem dX2_asks_42 : decode cX2_asks 42 = .ok (.iadd, 1) := dk_96 (dk_at dksX2_asks_1 19 rfl rfl)
theorem dX2_asks_43 : decode cX2_asks 43 = .ok (.iastore, 1) := dk_79 (dk_at dksX2_asks_1 20 rfl rfl)
theorem dX2_asks_44 : decode cX2_asks 44 = .ok (.aload_n 0, 1) := dk_42 (dk_at dksX2_asks_1 21 rfl rfl)
theorem dX2_asks_45 : decode cX2_asks 45 = .ok (.iload_n 1, 1) := dk_27 (dk_at dksX2_asks_1 22 rfl rfl)
theorem dX2_asks_46 : decode cX2_asks 46 = .ok (.iload_n 2, 1) := dk_28 (dk_at dksX2_asks_1 23 rfl rfl)
theorem dX2_asks_47 : decode cX2_asks 47 = .ok (.iload_n 3, 1) := dk_29 (dk_at dksX2_asks_2 0 rfl rfl)
theorem dX2_asks_48 : decode cX2_asks 48 = .ok (.invokevirtual 270, 3) := dk_182 1 14 (dk_at dksX2_asks_2 1 rfl rfl)
theorem dX2_asks_51 : decode cX2_asks 51 = .ok (.iinc 3 1, 3) := dk_132 3 1 (dk_at dksX2_asks_2 4 rfl rfl)
theorem dX2_asks_54 : decode cX2_asks 54 = .ok (.goto (-45), 3) := dk_167 255 211 (dk_at dksX2_asks_2 7 rfl rfl)
theorem dX2_asks_57 : decode cX2_asks 57 = .ok (.iinc 2 1, 3) := dk_132 2 1 (dk_at dksX2_asks_2 10 rfl rfl)
theorem dX2_asks_60 : decode cX2_asks 60 = .ok (.goto (-58), 3) := dk_167 255 198 (dk_at dksX2_asks_2 13 rfl rfl)
theorem dX2_asks_63 : decode cX2_asks 63 = .ok (.aload_n 0, 1) := dk_42 (dk_at dksX2_asks_2 16 rfl rfl)
theorem dX2_asks_64 : decode cX2_asks 64 = .ok (.iload_n 1, 1) := dk_27 (dk_at dksX2_asks_2 17 rfl rfl)
theorem dX2_asks_65 : decode cX2_asks 65 = .ok (.iconst 2, 1) := dk_5 (dk_at dksX2_asks_2 18 rfl rfl)
theorem dX2_asks_66 : decode cX2_asks 66 = .ok (.aload_n 0, 1) := dk_42 (dk_at dksX2_asks_2 19 rfl rfl)
theorem dX2_asks_67 : decode cX2_asks 67 = .ok (.iload_n 1, 1) := dk_27 (dk_at dksX2_asks_2 20 rfl rfl)
theorem dX2_asks_68 : decode cX2_asks 68 = .ok (.iconst 2, 1) := dk_5 (dk_at dksX2_asks_2 21 rfl rfl)
theorem dX2_asks_69 : decode cX2_asks 69 = .ok (.invokevirtual 238, 3) := dk_182 0 238 (dk_at dksX2_asks_3 0 rfl rfl)
theorem dX2_asks_72 : decode cX2_asks 72 = .ok (.iconst 1, 1) := dk_4 (dk_at dksX2_asks_3 3 rfl rfl)
theorem dX2_asks_73 : decode cX2_asks 73 = .ok (.iadd, 1) := dk_96 (dk_at dksX2_asks_3 4 rfl rfl)
theorem dX2_asks_74 : decode cX2_asks 74 = .ok (.invokevirtual 241, 3) := dk_182 0 241 (dk_at dksX2_asks_3 5 rfl rfl)
theorem dX2_asks_77 : decode cX2_asks 77 = .ok (.aload_n 0, 1) := dk_42 (dk_at dksX2_asks_3 8 rfl rfl)
theorem dX2_asks_78 : decode cX2_asks 78 = .ok (.iconst 2, 1) := dk_5 (dk_at dksX2_asks_3 9 rfl rfl)
theorem dX2_asks_79 : decode cX2_asks 79 = .ok (.iload_n 1, 1) := dk_27 (dk_at dksX2_asks_3 10 rfl rfl)
theorem dX2_asks_80 : decode cX2_asks 80 = .ok (.invokevirtual 188, 3) := dk_182 0 188 (dk_at dksX2_asks_3 11 rfl rfl)
theorem dX2_asks_83 : decode cX2_asks 83 = .ok (.return_, 1) := dk_177 (dk_at dksX2_asks_3 14 rfl rfl)
abbrev cX2_getsCopies : ByteArray := prog_12_method_54_code
def yX2_getsCopies : MethodName := ⟨RX2, "getsCopies", "(III)V"⟩
def dkwX2_getsCopies_4 : List UInt8 := [96, 42, 27, 28, 29, 182, 0, 254, 182, 0, 241, 177]
abbrev dktX2_getsCopies_4 : List UInt8 := dkwX2_getsCopies_4 ++ []
def dkwX2_getsCopies_3 : List UInt8 := [21, 4, 96, 21, 6, 182, 0, 241, 132, 4, 1, 167, 255, 176, 42, 27, 16, 17, 16, 12, 28, 104, 96, 29]
abbrev dktX2_getsCopies_3 : List UInt8 := dkwX2_getsCopies_3 ++ dktX2_getsCopies_4
def dkwX2_getsCopies_2 : List UInt8 := [184, 0, 126, 29, 21, 5, 182, 0, 251, 54, 6, 42, 27, 16, 89, 6, 16, 12, 28, 104, 29, 96, 104, 96]
abbrev dktX2_getsCopies_2 : List UInt8 := dkwX2_getsCopies_2 ++ dktX2_getsCopies_3
def dkwX2_getsCopies_1 : List UInt8 := [54, 5, 21, 5, 2, 160, 0, 7, 2, 167, 0, 24, 42, 42, 27, 4, 182, 0, 238, 4, 100, 21, 4, 28]
abbrev dktX2_getsCopies_1 : List UInt8 := dkwX2_getsCopies_1 ++ dktX2_getsCopies_2
def dkwX2_getsCopies_0 : List UInt8 := [3, 54, 4, 21, 4, 6, 162, 0, 80, 42, 27, 16, 53, 16, 12, 21, 4, 104, 96, 29, 96, 182, 0, 238]
abbrev dktX2_getsCopies_0 : List UInt8 := dkwX2_getsCopies_0 ++ dktX2_getsCopies_1
theorem dksX2_getsCopies_0 : cX2_getsCopies.data.toList.drop 0 = dktX2_getsCopies_0 := by decide +kernel
theorem dksX2_getsCopies_1 : cX2_getsCopies.data.toList.drop 24 = dktX2_getsCopies_1 := dk_seg dksX2_getsCopies_0 24 rfl rfl
theorem dksX2_getsCopies_2 : cX2_getsCopies.data.toList.drop 48 = dktX2_getsCopies_2 := dk_seg dksX2_getsCopies_1 24 rfl rfl
theorem dksX2_getsCopies_3 : cX2_getsCopies.data.toList.drop 72 = dktX2_getsCopies_3 := dk_seg dksX2_getsCopies_2 24 rfl rfl
theorem dksX2_getsCopies_4 : cX2_getsCopies.data.toList.drop 96 = dktX2_getsCopies_4 := dk_seg dksX2_getsCopies_3 24 rfl rfl
theorem dX2_getsCopies_0 : decode cX2_getsCopies 0 = .ok (.iconst 0, 1) := dk_3 (dk_at dksX2_getsCopies_0 0 rfl rfl)
theorem dX2_getsCopies_1 : decode cX2_getsCopies 1 = .ok (.istore 4, 2) := dk_54 4 (dk_at dksX2_getsCopies_0 1 rfl rfl)
theorem dX2_getsCopies_3 : decode cX2_getsCopies 3 = .ok (.iload 4, 2) := dk_21 4 (dk_at dksX2_getsCopies_0 3 rfl rfl)
theorem dX2_getsCopies_5 : decode cX2_getsCopies 5 = .ok (.iconst 3, 1) := dk_6 (dk_at dksX2_getsCopies_0 5 rfl rfl)
theorem dX2_getsCopies_6 : decode cX2_getsCopies 6 = .ok (.if_icmp .ge 80, 3) := dk_162 0 80 (dk_at dksX2_getsCopies_0 6 rfl rfl)
theorem dX2_getsCopies_9 : decode cX2_getsCopies 9 = .ok (.aload_n 0, 1) := dk_42 (dk_at dksX2_getsCopies_0 9 rfl rfl)
theorem dX2_getsCopies_10 : decode cX2_getsCopies 10 = .ok (.iload_n 1, 1) := dk_27 (dk_at dksX2_getsCopies_0 10 rfl rfl)
theorem dX2_getsCopies_11 : decode cX2_getsCopies 11 = .ok (.bipush 53, 2) := dk_16 53 (dk_at dksX2_getsCopies_0 11 rfl rfl)
theorem dX2_getsCopies_13 : decode cX2_getsCopies 13 = .ok (.bipush 12, 2) := dk_16 12 (dk_at dksX2_getsCopies_0 13 rfl rfl)
theorem dX2_getsCopies_15 : decode cX2_getsCopies 15 = .ok (.iload 4, 2) := dk_21 4 (dk_at dksX2_getsCopies_0 15 rfl rfl)
theorem dX2_getsCopies_17 : decode cX2_getsCopies 17 = .ok (.imul, 1) := dk_104 (dk_at dksX2_getsCopies_0 17 rfl rfl)
theorem dX2_getsCopies_18 : decode cX2_getsCopies 18 = .ok (.iadd, 1) := dk_96 (dk_at dksX2_getsCopies_0 18 rfl rfl)
theorem dX2_getsCopies_19 : decode cX2_getsCopies 19 = .ok (.iload_n 3, 1) := dk_29 (dk_at dksX2_getsCopies_0 19 rfl rfl)
theorem dX2_getsCopies_20 : decode cX2_getsCopies 20 = .ok (.iadd, 1) := dk_96 (dk_at dksX2_getsCopies_0 20 rfl rfl)
theorem dX2_getsCopies_21 : decode cX2_getsCopies 21 = .ok (.invokevirtual 238, 3) := dk_182 0 238 (dk_at dksX2_getsCopies_0 21 rfl rfl)
theorem dX2_getsCopies_24 : decode cX2_getsCopies 24 = .ok (.istore 5, 2) := dk_54 5 (dk_at dksX2_getsCopies_1 0 rfl rfl)
theorem dX2_getsCopies_26 : decode cX2_getsCopies 26 = .ok (.iload 5, 2) := dk_21 5 (dk_at dksX2_getsCopies_1 2 rfl rfl)
theorem dX2_getsCopies_28 : decode cX2_getsCopies 28 = .ok (.iconst (-1), 1) := dk_2 (dk_at dksX2_getsCopies_1 4 rfl rfl)
theorem dX2_getsCopies_29 : decode cX2_getsCopies 29 = .ok (.if_icmp .ne 7, 3) := dk_160 0 7 (dk_at dksX2_getsCopies_1 5 rfl rfl)
theorem dX2_getsCopies_32 : decode cX2_getsCopies 32 = .ok (.iconst (-1), 1) := dk_2 (dk_at dksX2_getsCopies_1 8 rfl rfl)
theorem dX2_getsCopies_33 : decode cX2_getsCopies 33 = .ok (.goto 24, 3) := dk_167 0 24 (dk_at dksX2_getsCopies_1 9 rfl rfl)
theorem dX2_getsCopies_36 : decode cX2_getsCopies 36 = .ok (.aload_n 0, 1) := dk_42 (dk_at dksX2_getsCopies_1 12 rfl rfl)
theorem dX2_getsCopies_37 : decode cX2_getsCopies 37 = .ok (.aload_n 0, 1) := dk_42 (dk_at dksX2_getsCopies_1 13 rfl rfl)
theorem dX2_getsCopies_38 : decode cX2_getsCopies 38 = .ok (.iload_n 1, 1) := dk_27 (dk_at dksX2_getsCopies_1 14 rfl rfl)
theorem dX2_getsCopies_39 : decode cX2_getsCopies 39 = .ok (.iconst 1, 1) := dk_4 (dk_at dksX2_getsCopies_1 15 rfl rfl)
theorem dX2_getsCopies_40 : decode cX2_getsCopies 40 = .ok (.invokevirtual 238, 3) := dk_182 0 238 (dk_at dksX2_getsCopies_1 16 rfl rfl)
theorem dX2_getsCopies_43 : decode cX2_getsCopies 43 = .ok (.iconst 1, 1) := dk_4 (dk_at dksX2_getsCopies_1 19 rfl rfl)
theorem dX2_getsCopies_44 : decode cX2_getsCopies 44 = .ok (.isub, 1) := dk_100 (dk_at dksX2_getsCopies_1 20 rfl rfl)
theorem dX2_getsCopies_45 : decode cX2_getsCopies 45 = .ok (.iload 4, 2) := dk_21 4 (dk_at dksX2_getsCopies_1 21 rfl rfl)
theorem dX2_getsCopies_47 : decode cX2_getsCopies 47 = .ok (.iload_n 2, 1) := dk_28 (dk_at dksX2_getsCopies_1 23 rfl rfl)
theorem dX2_getsCopies_48 : decode cX2_getsCopies 48 = .ok (.invokestatic 126, 3) := dk_184 0 126 (dk_at dksX2_getsCopies_2 0 rfl rfl)
theorem dX2_getsCopies_51 : decode cX2_getsCopies 51 = .ok (.iload_n 3, 1) := dk_29 (dk_at dksX2_getsCopies_2 3 rfl rfl)
theorem dX2_getsCopies_52 : decode cX2_getsCopies 52 = .ok (.iload 5, 2) := dk_21 5 (dk_at dksX2_getsCopies_2 4 rfl rfl)
theorem dX2_getsCopies_54 : decode cX2_getsCopies 54 = .ok (.invokevirtual 251, 3) := dk_182 0 251 (dk_at dksX2_getsCopies_2 6 rfl rfl)
theorem dX2_getsCopies_57 : decode cX2_getsCopies 57 = .ok (.istore 6, 2) := dk_54 6 (dk_at dksX2_getsCopies_2 9 rfl rfl)
theorem dX2_getsCopies_59 : decode cX2_getsCopies 59 = .ok (.aload_n 0, 1) := dk_42 (dk_at dksX2_getsCopies_2 11 rfl rfl)
theorem dX2_getsCopies_60 : decode cX2_getsCopies 60 = .ok (.iload_n 1, 1) := dk_27 (dk_at dksX2_getsCopies_2 12 rfl rfl)
theorem dX2_getsCopies_61 : decode cX2_getsCopies 61 = .ok (.bipush 89, 2) := dk_16 89 (dk_at dksX2_getsCopies_2 13 rfl rfl)
theorem dX2_getsCopies_63 : decode cX2_getsCopies 63 = .ok (.iconst 3, 1) := dk_6 (dk_at dksX2_getsCopies_2 15 rfl rfl)
theorem dX2_getsCopies_64 : decode cX2_getsCopies 64 = .ok (.bipush 12, 2) := dk_16 12 (dk_at dksX2_getsCopies_2 16 rfl rfl)
theorem dX2_getsCopies_66 : decode cX2_getsCopies 66 = .ok (.iload_n 2, 1) := dk_28 (dk_at dksX2_getsCopies_2 18 rfl rfl)
theorem dX2_getsCopies_67 : decode cX2_getsCopies 67 = .ok (.imul, 1) := dk_104 (dk_at dksX2_getsCopies_2 19 rfl rfl)
theorem dX2_getsCopies_68 : decode cX2_getsCopies 68 = .ok (.iload_n 3, 1) := dk_29 (dk_at dksX2_getsCopies_2 20 rfl rfl)
theorem dX2_getsCopies_69 : decode cX2_getsCopies 69 = .ok (.iadd, 1) := dk_96 (dk_at dksX2_getsCopies_2 21 rfl rfl)
theorem dX2_getsCopies_70 : decode cX2_getsCopies 70 = .ok (.imul, 1) := dk_104 (dk_at dksX2_getsCopies_2 22 rfl rfl)
theorem dX2_getsCopies_71 : decode cX2_getsCopies 71 = .ok (.iadd, 1) := dk_96 (dk_at dksX2_getsCopies_2 23 rfl rfl)
theorem dX2_getsCopies_72 : decode cX2_getsCopies 72 = .ok (.iload 4, 2) := dk_21 4 (dk_at dksX2_getsCopies_3 0 rfl rfl)
theorem dX2_getsCopies_74 : decode cX2_getsCopies 74 = .ok (.iadd, 1) := dk_96 (dk_at dksX2_getsCopies_3 2 rfl rfl)
theorem dX2_getsCopies_75 : decode cX2_getsCopies 75 = .ok (.iload 6, 2) := dk_21 6 (dk_at dksX2_getsCopies_3 3 rfl rfl)
theorem dX2_getsCopies_77 : decode cX2_getsCopies 77 = .ok (.invokevirtual 241, 3) := dk_182 0 241 (dk_at dksX2_getsCopies_3 5 rfl rfl)
theorem dX2_getsCopies_80 : decode cX2_getsCopies 80 = .ok (.iinc 4 1, 3) := dk_132 4 1 (dk_at dksX2_getsCopies_3 8 rfl rfl)
theorem dX2_getsCopies_83 : decode cX2_getsCopies 83 = .ok (.goto (-80), 3) := dk_167 255 176 (dk_at dksX2_getsCopies_3 11 rfl rfl)
theorem dX2_getsCopies_86 : decode cX2_getsCopies 86 = .ok (.aload_n 0, 1) := dk_42 (dk_at dksX2_getsCopies_3 14 rfl rfl)
theorem dX2_getsCopies_87 : decode cX2_getsCopies 87 = .ok (.iload_n 1, 1) := dk_27 (dk_at dksX2_getsCopies_3 15 rfl rfl)
theorem dX2_getsCopies_88 : decode cX2_getsCopies 88 = .ok (.bipush 17, 2) := dk_16 17 (dk_at dksX2_getsCopies_3 16 rfl rfl)
theorem dX2_getsCopies_90 : decode cX2_getsCopies 90 = .ok (.bipush 12, 2) := dk_16 12 (dk_at dksX2_getsCopies_3 18 rfl rfl)
theorem dX2_getsCopies_92 : decode cX2_getsCopies 92 = .ok (.iload_n 2, 1) := dk_28 (dk_at dksX2_getsCopies_3 20 rfl rfl)
theorem dX2_getsCopies_93 : decode cX2_getsCopies 93 = .ok (.imul, 1) := dk_104 (dk_at dksX2_getsCopies_3 21 rfl rfl)
theorem dX2_getsCopies_94 : decode cX2_getsCopies 94 = .ok (.iadd, 1) := dk_96 (dk_at dksX2_getsCopies_3 22 rfl rfl)
theorem dX2_getsCopies_95 : decode cX2_getsCopies 95 = .ok (.iload_n 3, 1) := dk_29 (dk_at dksX2_getsCopies_3 23 rfl rfl)
theorem dX2_getsCopies_96 : decode cX2_getsCopies 96 = .ok (.iadd, 1) := dk_96 (dk_at dksX2_getsCopies_4 0 rfl rfl)
theorem dX2_getsCopies_97 : decode cX2_getsCopies 97 = .ok (.aload_n 0, 1) := dk_42 (dk_at dksX2_getsCopies_4 1 rfl rfl)
theorem dX2_getsCopies_98 : decode cX2_getsCopies 98 = .ok (.iload_n 1, 1) := dk_27 (dk_at dksX2_getsCopies_4 2 rfl rfl)
theorem dX2_getsCopies_99 : decode cX2_getsCopies 99 = .ok (.iload_n 2, 1) := dk_28 (dk_at dksX2_getsCopies_4 3 rfl rfl)
theorem dX2_getsCopies_100 : decode cX2_getsCopies 100 = .ok (.iload_n 3, 1) := dk_29 (dk_at dksX2_getsCopies_4 4 rfl rfl)
theorem dX2_getsCopies_101 : decode cX2_getsCopies 101 = .ok (.invokevirtual 254, 3) := dk_182 0 254 (dk_at dksX2_getsCopies_4 5 rfl rfl)
theorem dX2_getsCopies_104 : decode cX2_getsCopies 104 = .ok (.invokevirtual 241, 3) := dk_182 0 241 (dk_at dksX2_getsCopies_4 8 rfl rfl)
theorem dX2_getsCopies_107 : decode cX2_getsCopies 107 = .ok (.return_, 1) := dk_177 (dk_at dksX2_getsCopies_4 11 rfl rfl)
abbrev cX2_sends : ByteArray := prog_12_method_43_code
def yX2_sends : MethodName := ⟨RX2, "sends", "(III)I"⟩
def dkwX2_sends_3 : List UInt8 := [79, 42, 27, 7, 42, 27, 7, 182, 0, 134, 4, 96, 182, 0, 137, 42, 27, 28, 29, 182, 0, 235, 172]
abbrev dktX2_sends_3 : List UInt8 := dkwX2_sends_3 ++ []
def dkwX2_sends_2 : List UInt8 := [27, 42, 180, 0, 9, 5, 46, 28, 182, 0, 232, 153, 0, 28, 42, 180, 0, 9, 16, 6, 92, 46, 4, 96]
abbrev dktX2_sends_2 : List UInt8 := dkwX2_sends_2 ++ dktX2_sends_3
def dkwX2_sends_1 : List UInt8 := [42, 27, 5, 182, 0, 134, 4, 160, 0, 16, 42, 180, 0, 9, 16, 7, 92, 46, 4, 96, 79, 2, 172, 42]
abbrev dktX2_sends_1 : List UInt8 := dkwX2_sends_1 ++ dktX2_sends_2
def dkwX2_sends_0 : List UInt8 := [42, 180, 0, 9, 8, 92, 46, 4, 96, 79, 42, 27, 6, 42, 27, 6, 182, 0, 134, 4, 96, 182, 0, 137]
abbrev dktX2_sends_0 : List UInt8 := dkwX2_sends_0 ++ dktX2_sends_1
theorem dksX2_sends_0 : cX2_sends.data.toList.drop 0 = dktX2_sends_0 := by decide +kernel
theorem dksX2_sends_1 : cX2_sends.data.toList.drop 24 = dktX2_sends_1 := dk_seg dksX2_sends_0 24 rfl rfl
theorem dksX2_sends_2 : cX2_sends.data.toList.drop 48 = dktX2_sends_2 := dk_seg dksX2_sends_1 24 rfl rfl
theorem dksX2_sends_3 : cX2_sends.data.toList.drop 72 = dktX2_sends_3 := dk_seg dksX2_sends_2 24 rfl rfl
theorem dX2_sends_0 : decode cX2_sends 0 = .ok (.aload_n 0, 1) := dk_42 (dk_at dksX2_sends_0 0 rfl rfl)
theorem dX2_sends_1 : decode cX2_sends 1 = .ok (.getfield 9, 3) := dk_180 0 9 (dk_at dksX2_sends_0 1 rfl rfl)
theorem dX2_sends_4 : decode cX2_sends 4 = .ok (.iconst 5, 1) := dk_8 (dk_at dksX2_sends_0 4 rfl rfl)
theorem dX2_sends_5 : decode cX2_sends 5 = .ok (.dup2, 1) := dk_92 (dk_at dksX2_sends_0 5 rfl rfl)
theorem dX2_sends_6 : decode cX2_sends 6 = .ok (.iaload, 1) := dk_46 (dk_at dksX2_sends_0 6 rfl rfl)
theorem dX2_sends_7 : decode cX2_sends 7 = .ok (.iconst 1, 1) := dk_4 (dk_at dksX2_sends_0 7 rfl rfl)
theorem dX2_sends_8 : decode cX2_sends 8 = .ok (.iadd, 1) := dk_96 (dk_at dksX2_sends_0 8 rfl rfl)
theorem dX2_sends_9 : decode cX2_sends 9 = .ok (.iastore, 1) := dk_79 (dk_at dksX2_sends_0 9 rfl rfl)
theorem dX2_sends_10 : decode cX2_sends 10 = .ok (.aload_n 0, 1) := dk_42 (dk_at dksX2_sends_0 10 rfl rfl)
theorem dX2_sends_11 : decode cX2_sends 11 = .ok (.iload_n 1, 1) := dk_27 (dk_at dksX2_sends_0 11 rfl rfl)
theorem dX2_sends_12 : decode cX2_sends 12 = .ok (.iconst 3, 1) := dk_6 (dk_at dksX2_sends_0 12 rfl rfl)
theorem dX2_sends_13 : decode cX2_sends 13 = .ok (.aload_n 0, 1) := dk_42 (dk_at dksX2_sends_0 13 rfl rfl)
theorem dX2_sends_14 : decode cX2_sends 14 = .ok (.iload_n 1, 1) := dk_27 (dk_at dksX2_sends_0 14 rfl rfl)
theorem dX2_sends_15 : decode cX2_sends 15 = .ok (.iconst 3, 1) := dk_6 (dk_at dksX2_sends_0 15 rfl rfl)
theorem dX2_sends_16 : decode cX2_sends 16 = .ok (.invokevirtual 134, 3) := dk_182 0 134 (dk_at dksX2_sends_0 16 rfl rfl)
theorem dX2_sends_19 : decode cX2_sends 19 = .ok (.iconst 1, 1) := dk_4 (dk_at dksX2_sends_0 19 rfl rfl)
theorem dX2_sends_20 : decode cX2_sends 20 = .ok (.iadd, 1) := dk_96 (dk_at dksX2_sends_0 20 rfl rfl)
theorem dX2_sends_21 : decode cX2_sends 21 = .ok (.invokevirtual 137, 3) := dk_182 0 137 (dk_at dksX2_sends_0 21 rfl rfl)
theorem dX2_sends_24 : decode cX2_sends 24 = .ok (.aload_n 0, 1) := dk_42 (dk_at dksX2_sends_1 0 rfl rfl)
theorem dX2_sends_25 : decode cX2_sends 25 = .ok (.iload_n 1, 1) := dk_27 (dk_at dksX2_sends_1 1 rfl rfl)
theorem dX2_sends_26 : decode cX2_sends 26 = .ok (.iconst 2, 1) := dk_5 (dk_at dksX2_sends_1 2 rfl rfl)
theorem dX2_sends_27 : decode cX2_sends 27 = .ok (.invokevirtual 134, 3) := dk_182 0 134 (dk_at dksX2_sends_1 3 rfl rfl)
theorem dX2_sends_30 : decode cX2_sends 30 = .ok (.iconst 1, 1) := dk_4 (dk_at dksX2_sends_1 6 rfl rfl)
theorem dX2_sends_31 : decode cX2_sends 31 = .ok (.if_icmp .ne 16, 3) := dk_160 0 16 (dk_at dksX2_sends_1 7 rfl rfl)
theorem dX2_sends_34 : decode cX2_sends 34 = .ok (.aload_n 0, 1) := dk_42 (dk_at dksX2_sends_1 10 rfl rfl)
theorem dX2_sends_35 : decode cX2_sends 35 = .ok (.getfield 9, 3) := dk_180 0 9 (dk_at dksX2_sends_1 11 rfl rfl)
theorem dX2_sends_38 : decode cX2_sends 38 = .ok (.bipush 7, 2) := dk_16 7 (dk_at dksX2_sends_1 14 rfl rfl)
theorem dX2_sends_40 : decode cX2_sends 40 = .ok (.dup2, 1) := dk_92 (dk_at dksX2_sends_1 16 rfl rfl)
theorem dX2_sends_41 : decode cX2_sends 41 = .ok (.iaload, 1) := dk_46 (dk_at dksX2_sends_1 17 rfl rfl)
theorem dX2_sends_42 : decode cX2_sends 42 = .ok (.iconst 1, 1) := dk_4 (dk_at dksX2_sends_1 18 rfl rfl)
theorem dX2_sends_43 : decode cX2_sends 43 = .ok (.iadd, 1) := dk_96 (dk_at dksX2_sends_1 19 rfl rfl)
theorem dX2_sends_44 : decode cX2_sends 44 = .ok (.iastore, 1) := dk_79 (dk_at dksX2_sends_1 20 rfl rfl)
theorem dX2_sends_45 : decode cX2_sends 45 = .ok (.iconst (-1), 1) := dk_2 (dk_at dksX2_sends_1 21 rfl rfl)
theorem dX2_sends_46 : decode cX2_sends 46 = .ok (.ireturn, 1) := dk_172 (dk_at dksX2_sends_1 22 rfl rfl)
theorem dX2_sends_47 : decode cX2_sends 47 = .ok (.aload_n 0, 1) := dk_42 (dk_at dksX2_sends_1 23 rfl rfl)
theorem dX2_sends_48 : decode cX2_sends 48 = .ok (.iload_n 1, 1) := dk_27 (dk_at dksX2_sends_2 0 rfl rfl)
theorem dX2_sends_49 : decode cX2_sends 49 = .ok (.aload_n 0, 1) := dk_42 (dk_at dksX2_sends_2 1 rfl rfl)
theorem dX2_sends_50 : decode cX2_sends 50 = .ok (.getfield 9, 3) := dk_180 0 9 (dk_at dksX2_sends_2 2 rfl rfl)
theorem dX2_sends_53 : decode cX2_sends 53 = .ok (.iconst 2, 1) := dk_5 (dk_at dksX2_sends_2 5 rfl rfl)
theorem dX2_sends_54 : decode cX2_sends 54 = .ok (.iaload, 1) := dk_46 (dk_at dksX2_sends_2 6 rfl rfl)
theorem dX2_sends_55 : decode cX2_sends 55 = .ok (.iload_n 2, 1) := dk_28 (dk_at dksX2_sends_2 7 rfl rfl)
theorem dX2_sends_56 : decode cX2_sends 56 = .ok (.invokevirtual 232, 3) := dk_182 0 232 (dk_at dksX2_sends_2 8 rfl rfl)
theorem dX2_sends_59 : decode cX2_sends 59 = .ok (.ifCond .eq 28, 3) := dk_153 0 28 (dk_at dksX2_sends_2 11 rfl rfl)
theorem dX2_sends_62 : decode cX2_sends 62 = .ok (.aload_n 0, 1) := dk_42 (dk_at dksX2_sends_2 14 rfl rfl)
theorem dX2_sends_63 : decode cX2_sends 63 = .ok (.getfield 9, 3) := dk_180 0 9 (dk_at dksX2_sends_2 15 rfl rfl)
theorem dX2_sends_66 : decode cX2_sends 66 = .ok (.bipush 6, 2) := dk_16 6 (dk_at dksX2_sends_2 18 rfl rfl)
theorem dX2_sends_68 : decode cX2_sends 68 = .ok (.dup2, 1) := dk_92 (dk_at dksX2_sends_2 20 rfl rfl)
theorem dX2_sends_69 : decode cX2_sends 69 = .ok (.iaload, 1) := dk_46 (dk_at dksX2_sends_2 21 rfl rfl)
theorem dX2_sends_70 : decode cX2_sends 70 = .ok (.iconst 1, 1) := dk_4 (dk_at dksX2_sends_2 22 rfl rfl)
theorem dX2_sends_71 : decode cX2_sends 71 = .ok (.iadd, 1) := dk_96 (dk_at dksX2_sends_2 23 rfl rfl)
theorem dX2_sends_72 : decode cX2_sends 72 = .ok (.iastore, 1) := dk_79 (dk_at dksX2_sends_3 0 rfl rfl)
theorem dX2_sends_73 : decode cX2_sends 73 = .ok (.aload_n 0, 1) := dk_42 (dk_at dksX2_sends_3 1 rfl rfl)
theorem dX2_sends_74 : decode cX2_sends 74 = .ok (.iload_n 1, 1) := dk_27 (dk_at dksX2_sends_3 2 rfl rfl)
theorem dX2_sends_75 : decode cX2_sends 75 = .ok (.iconst 4, 1) := dk_7 (dk_at dksX2_sends_3 3 rfl rfl)
theorem dX2_sends_76 : decode cX2_sends 76 = .ok (.aload_n 0, 1) := dk_42 (dk_at dksX2_sends_3 4 rfl rfl)
theorem dX2_sends_77 : decode cX2_sends 77 = .ok (.iload_n 1, 1) := dk_27 (dk_at dksX2_sends_3 5 rfl rfl)
theorem dX2_sends_78 : decode cX2_sends 78 = .ok (.iconst 4, 1) := dk_7 (dk_at dksX2_sends_3 6 rfl rfl)
theorem dX2_sends_79 : decode cX2_sends 79 = .ok (.invokevirtual 134, 3) := dk_182 0 134 (dk_at dksX2_sends_3 7 rfl rfl)
theorem dX2_sends_82 : decode cX2_sends 82 = .ok (.iconst 1, 1) := dk_4 (dk_at dksX2_sends_3 10 rfl rfl)
theorem dX2_sends_83 : decode cX2_sends 83 = .ok (.iadd, 1) := dk_96 (dk_at dksX2_sends_3 11 rfl rfl)
theorem dX2_sends_84 : decode cX2_sends 84 = .ok (.invokevirtual 137, 3) := dk_182 0 137 (dk_at dksX2_sends_3 12 rfl rfl)
theorem dX2_sends_87 : decode cX2_sends 87 = .ok (.aload_n 0, 1) := dk_42 (dk_at dksX2_sends_3 15 rfl rfl)
theorem dX2_sends_88 : decode cX2_sends 88 = .ok (.iload_n 1, 1) := dk_27 (dk_at dksX2_sends_3 16 rfl rfl)
theorem dX2_sends_89 : decode cX2_sends 89 = .ok (.iload_n 2, 1) := dk_28 (dk_at dksX2_sends_3 17 rfl rfl)
theorem dX2_sends_90 : decode cX2_sends 90 = .ok (.iload_n 3, 1) := dk_29 (dk_at dksX2_sends_3 18 rfl rfl)
theorem dX2_sends_91 : decode cX2_sends 91 = .ok (.invokevirtual 235, 3) := dk_182 0 235 (dk_at dksX2_sends_3 19 rfl rfl)
theorem dX2_sends_94 : decode cX2_sends 94 = .ok (.ireturn, 1) := dk_172 (dk_at dksX2_sends_3 22 rfl rfl)
abbrev cX2_isGarbled : ByteArray := prog_12_method_41_code
def yX2_isGarbled : MethodName := ⟨RX2, "isGarbled", "(III)Z"⟩
def dkwX2_isGarbled_1 : List UInt8 := [162, 0, 7, 4, 167, 0, 4, 3, 172]
abbrev dktX2_isGarbled_1 : List UInt8 := dkwX2_isGarbled_1 ++ []
def dkwX2_isGarbled_0 : List UInt8 := [16, 7, 28, 104, 6, 29, 104, 96, 42, 27, 4, 182, 0, 134, 96, 16, 10, 112, 42, 27, 3, 182, 0, 134]
abbrev dktX2_isGarbled_0 : List UInt8 := dkwX2_isGarbled_0 ++ dktX2_isGarbled_1
theorem dksX2_isGarbled_0 : cX2_isGarbled.data.toList.drop 0 = dktX2_isGarbled_0 := by decide +kernel
theorem dksX2_isGarbled_1 : cX2_isGarbled.data.toList.drop 24 = dktX2_isGarbled_1 := dk_seg dksX2_isGarbled_0 24 rfl rfl
theorem dX2_isGarbled_0 : decode cX2_isGarbled 0 = .ok (.bipush 7, 2) := dk_16 7 (dk_at dksX2_isGarbled_0 0 rfl rfl)
theorem dX2_isGarbled_2 : decode cX2_isGarbled 2 = .ok (.iload_n 2, 1) := dk_28 (dk_at dksX2_isGarbled_0 2 rfl rfl)
theorem dX2_isGarbled_3 : decode cX2_isGarbled 3 = .ok (.imul, 1) := dk_104 (dk_at dksX2_isGarbled_0 3 rfl rfl)
theorem dX2_isGarbled_4 : decode cX2_isGarbled 4 = .ok (.iconst 3, 1) := dk_6 (dk_at dksX2_isGarbled_0 4 rfl rfl)
theorem dX2_isGarbled_5 : decode cX2_isGarbled 5 = .ok (.iload_n 3, 1) := dk_29 (dk_at dksX2_isGarbled_0 5 rfl rfl)
theorem dX2_isGarbled_6 : decode cX2_isGarbled 6 = .ok (.imul, 1) := dk_104 (dk_at dksX2_isGarbled_0 6 rfl rfl)
theorem dX2_isGarbled_7 : decode cX2_isGarbled 7 = .ok (.iadd, 1) := dk_96 (dk_at dksX2_isGarbled_0 7 rfl rfl)
theorem dX2_isGarbled_8 : decode cX2_isGarbled 8 = .ok (.aload_n 0, 1) := dk_42 (dk_at dksX2_isGarbled_0 8 rfl rfl)
theorem dX2_isGarbled_9 : decode cX2_isGarbled 9 = .ok (.iload_n 1, 1) := dk_27 (dk_at dksX2_isGarbled_0 9 rfl rfl)
theorem dX2_isGarbled_10 : decode cX2_isGarbled 10 = .ok (.iconst 1, 1) := dk_4 (dk_at dksX2_isGarbled_0 10 rfl rfl)
theorem dX2_isGarbled_11 : decode cX2_isGarbled 11 = .ok (.invokevirtual 134, 3) := dk_182 0 134 (dk_at dksX2_isGarbled_0 11 rfl rfl)
theorem dX2_isGarbled_14 : decode cX2_isGarbled 14 = .ok (.iadd, 1) := dk_96 (dk_at dksX2_isGarbled_0 14 rfl rfl)
theorem dX2_isGarbled_15 : decode cX2_isGarbled 15 = .ok (.bipush 10, 2) := dk_16 10 (dk_at dksX2_isGarbled_0 15 rfl rfl)
theorem dX2_isGarbled_17 : decode cX2_isGarbled 17 = .ok (.irem, 1) := dk_112 (dk_at dksX2_isGarbled_0 17 rfl rfl)
theorem dX2_isGarbled_18 : decode cX2_isGarbled 18 = .ok (.aload_n 0, 1) := dk_42 (dk_at dksX2_isGarbled_0 18 rfl rfl)
theorem dX2_isGarbled_19 : decode cX2_isGarbled 19 = .ok (.iload_n 1, 1) := dk_27 (dk_at dksX2_isGarbled_0 19 rfl rfl)
theorem dX2_isGarbled_20 : decode cX2_isGarbled 20 = .ok (.iconst 0, 1) := dk_3 (dk_at dksX2_isGarbled_0 20 rfl rfl)
theorem dX2_isGarbled_21 : decode cX2_isGarbled 21 = .ok (.invokevirtual 134, 3) := dk_182 0 134 (dk_at dksX2_isGarbled_0 21 rfl rfl)
theorem dX2_isGarbled_24 : decode cX2_isGarbled 24 = .ok (.if_icmp .ge 7, 3) := dk_162 0 7 (dk_at dksX2_isGarbled_1 0 rfl rfl)
theorem dX2_isGarbled_27 : decode cX2_isGarbled 27 = .ok (.iconst 1, 1) := dk_4 (dk_at dksX2_isGarbled_1 3 rfl rfl)
theorem dX2_isGarbled_28 : decode cX2_isGarbled 28 = .ok (.goto 4, 3) := dk_167 0 4 (dk_at dksX2_isGarbled_1 4 rfl rfl)
theorem dX2_isGarbled_31 : decode cX2_isGarbled 31 = .ok (.iconst 0, 1) := dk_3 (dk_at dksX2_isGarbled_1 7 rfl rfl)
theorem dX2_isGarbled_32 : decode cX2_isGarbled 32 = .ok (.ireturn, 1) := dk_172 (dk_at dksX2_isGarbled_1 8 rfl rfl)
abbrev cX2_arriving : ByteArray := prog_12_method_42_code
def yX2_arriving : MethodName := ⟨RX2, "arriving", "(III)I"⟩
def dkwX2_arriving_1 : List UInt8 := [28, 96, 16, 9, 112, 96, 16, 10, 112, 167, 0, 4, 29, 172]
abbrev dktX2_arriving_1 : List UInt8 := dkwX2_arriving_1 ++ []
def dkwX2_arriving_0 : List UInt8 := [42, 27, 42, 180, 0, 9, 5, 46, 28, 182, 0, 232, 153, 0, 24, 29, 4, 96, 42, 180, 0, 9, 5, 46]
abbrev dktX2_arriving_0 : List UInt8 := dkwX2_arriving_0 ++ dktX2_arriving_1
theorem dksX2_arriving_0 : cX2_arriving.data.toList.drop 0 = dktX2_arriving_0 := by decide +kernel
theorem dksX2_arriving_1 : cX2_arriving.data.toList.drop 24 = dktX2_arriving_1 := dk_seg dksX2_arriving_0 24 rfl rfl
theorem dX2_arriving_0 : decode cX2_arriving 0 = .ok (.aload_n 0, 1) := dk_42 (dk_at dksX2_arriving_0 0 rfl rfl)
theorem dX2_arriving_1 : decode cX2_arriving 1 = .ok (.iload_n 1, 1) := dk_27 (dk_at dksX2_arriving_0 1 rfl rfl)
theorem dX2_arriving_2 : decode cX2_arriving 2 = .ok (.aload_n 0, 1) := dk_42 (dk_at dksX2_arriving_0 2 rfl rfl)
theorem dX2_arriving_3 : decode cX2_arriving 3 = .ok (.getfield 9, 3) := dk_180 0 9 (dk_at dksX2_arriving_0 3 rfl rfl)
theorem dX2_arriving_6 : decode cX2_arriving 6 = .ok (.iconst 2, 1) := dk_5 (dk_at dksX2_arriving_0 6 rfl rfl)
theorem dX2_arriving_7 : decode cX2_arriving 7 = .ok (.iaload, 1) := dk_46 (dk_at dksX2_arriving_0 7 rfl rfl)
theorem dX2_arriving_8 : decode cX2_arriving 8 = .ok (.iload_n 2, 1) := dk_28 (dk_at dksX2_arriving_0 8 rfl rfl)
theorem dX2_arriving_9 : decode cX2_arriving 9 = .ok (.invokevirtual 232, 3) := dk_182 0 232 (dk_at dksX2_arriving_0 9 rfl rfl)
theorem dX2_arriving_12 : decode cX2_arriving 12 = .ok (.ifCond .eq 24, 3) := dk_153 0 24 (dk_at dksX2_arriving_0 12 rfl rfl)
theorem dX2_arriving_15 : decode cX2_arriving 15 = .ok (.iload_n 3, 1) := dk_29 (dk_at dksX2_arriving_0 15 rfl rfl)
theorem dX2_arriving_16 : decode cX2_arriving 16 = .ok (.iconst 1, 1) := dk_4 (dk_at dksX2_arriving_0 16 rfl rfl)
theorem dX2_arriving_17 : decode cX2_arriving 17 = .ok (.iadd, 1) := dk_96 (dk_at dksX2_arriving_0 17 rfl rfl)
theorem dX2_arriving_18 : decode cX2_arriving 18 = .ok (.aload_n 0, 1) := dk_42 (dk_at dksX2_arriving_0 18 rfl rfl)
theorem dX2_arriving_19 : decode cX2_arriving 19 = .ok (.getfield 9, 3) := dk_180 0 9 (dk_at dksX2_arriving_0 19 rfl rfl)
theorem dX2_arriving_22 : decode cX2_arriving 22 = .ok (.iconst 2, 1) := dk_5 (dk_at dksX2_arriving_0 22 rfl rfl)
theorem dX2_arriving_23 : decode cX2_arriving 23 = .ok (.iaload, 1) := dk_46 (dk_at dksX2_arriving_0 23 rfl rfl)
theorem dX2_arriving_24 : decode cX2_arriving 24 = .ok (.iload_n 2, 1) := dk_28 (dk_at dksX2_arriving_1 0 rfl rfl)
theorem dX2_arriving_25 : decode cX2_arriving 25 = .ok (.iadd, 1) := dk_96 (dk_at dksX2_arriving_1 1 rfl rfl)
theorem dX2_arriving_26 : decode cX2_arriving 26 = .ok (.bipush 9, 2) := dk_16 9 (dk_at dksX2_arriving_1 2 rfl rfl)
theorem dX2_arriving_28 : decode cX2_arriving 28 = .ok (.irem, 1) := dk_112 (dk_at dksX2_arriving_1 4 rfl rfl)
theorem dX2_arriving_29 : decode cX2_arriving 29 = .ok (.iadd, 1) := dk_96 (dk_at dksX2_arriving_1 5 rfl rfl)
theorem dX2_arriving_30 : decode cX2_arriving 30 = .ok (.bipush 10, 2) := dk_16 10 (dk_at dksX2_arriving_1 6 rfl rfl)
theorem dX2_arriving_32 : decode cX2_arriving 32 = .ok (.irem, 1) := dk_112 (dk_at dksX2_arriving_1 8 rfl rfl)
theorem dX2_arriving_33 : decode cX2_arriving 33 = .ok (.goto 4, 3) := dk_167 0 4 (dk_at dksX2_arriving_1 9 rfl rfl)
theorem dX2_arriving_36 : decode cX2_arriving 36 = .ok (.iload_n 3, 1) := dk_29 (dk_at dksX2_arriving_1 12 rfl rfl)
theorem dX2_arriving_37 : decode cX2_arriving 37 = .ok (.ireturn, 1) := dk_172 (dk_at dksX2_arriving_1 13 rfl rfl)
abbrev cX2_votedAt : ByteArray := prog_12_method_53_code
def yX2_votedAt : MethodName := ⟨RX2, "votedAt", "(III)I"⟩
def dkwX2_votedAt_1 : List UInt8 := [184, 0, 248, 172]
abbrev dktX2_votedAt_1 : List UInt8 := dkwX2_votedAt_1 ++ []
def dkwX2_votedAt_0 : List UInt8 := [42, 27, 28, 29, 3, 182, 0, 244, 42, 27, 28, 29, 4, 182, 0, 244, 42, 27, 28, 29, 5, 182, 0, 244]
abbrev dktX2_votedAt_0 : List UInt8 := dkwX2_votedAt_0 ++ dktX2_votedAt_1
theorem dksX2_votedAt_0 : cX2_votedAt.data.toList.drop 0 = dktX2_votedAt_0 := by decide +kernel
theorem dksX2_votedAt_1 : cX2_votedAt.data.toList.drop 24 = dktX2_votedAt_1 := dk_seg dksX2_votedAt_0 24 rfl rfl
theorem dX2_votedAt_0 : decode cX2_votedAt 0 = .ok (.aload_n 0, 1) := dk_42 (dk_at dksX2_votedAt_0 0 rfl rfl)
theorem dX2_votedAt_1 : decode cX2_votedAt 1 = .ok (.iload_n 1, 1) := dk_27 (dk_at dksX2_votedAt_0 1 rfl rfl)
theorem dX2_votedAt_2 : decode cX2_votedAt 2 = .ok (.iload_n 2, 1) := dk_28 (dk_at dksX2_votedAt_0 2 rfl rfl)
theorem dX2_votedAt_3 : decode cX2_votedAt 3 = .ok (.iload_n 3, 1) := dk_29 (dk_at dksX2_votedAt_0 3 rfl rfl)
theorem dX2_votedAt_4 : decode cX2_votedAt 4 = .ok (.iconst 0, 1) := dk_3 (dk_at dksX2_votedAt_0 4 rfl rfl)
theorem dX2_votedAt_5 : decode cX2_votedAt 5 = .ok (.invokevirtual 244, 3) := dk_182 0 244 (dk_at dksX2_votedAt_0 5 rfl rfl)
theorem dX2_votedAt_8 : decode cX2_votedAt 8 = .ok (.aload_n 0, 1) := dk_42 (dk_at dksX2_votedAt_0 8 rfl rfl)
theorem dX2_votedAt_9 : decode cX2_votedAt 9 = .ok (.iload_n 1, 1) := dk_27 (dk_at dksX2_votedAt_0 9 rfl rfl)
theorem dX2_votedAt_10 : decode cX2_votedAt 10 = .ok (.iload_n 2, 1) := dk_28 (dk_at dksX2_votedAt_0 10 rfl rfl)
theorem dX2_votedAt_11 : decode cX2_votedAt 11 = .ok (.iload_n 3, 1) := dk_29 (dk_at dksX2_votedAt_0 11 rfl rfl)
theorem dX2_votedAt_12 : decode cX2_votedAt 12 = .ok (.iconst 1, 1) := dk_4 (dk_at dksX2_votedAt_0 12 rfl rfl)
theorem dX2_votedAt_13 : decode cX2_votedAt 13 = .ok (.invokevirtual 244, 3) := dk_182 0 244 (dk_at dksX2_votedAt_0 13 rfl rfl)
theorem dX2_votedAt_16 : decode cX2_votedAt 16 = .ok (.aload_n 0, 1) := dk_42 (dk_at dksX2_votedAt_0 16 rfl rfl)
theorem dX2_votedAt_17 : decode cX2_votedAt 17 = .ok (.iload_n 1, 1) := dk_27 (dk_at dksX2_votedAt_0 17 rfl rfl)
theorem dX2_votedAt_18 : decode cX2_votedAt 18 = .ok (.iload_n 2, 1) := dk_28 (dk_at dksX2_votedAt_0 18 rfl rfl)
theorem dX2_votedAt_19 : decode cX2_votedAt 19 = .ok (.iload_n 3, 1) := dk_29 (dk_at dksX2_votedAt_0 19 rfl rfl)
theorem dX2_votedAt_20 : decode cX2_votedAt 20 = .ok (.iconst 2, 1) := dk_5 (dk_at dksX2_votedAt_0 20 rfl rfl)
theorem dX2_votedAt_21 : decode cX2_votedAt 21 = .ok (.invokevirtual 244, 3) := dk_182 0 244 (dk_at dksX2_votedAt_0 21 rfl rfl)
theorem dX2_votedAt_24 : decode cX2_votedAt 24 = .ok (.invokestatic 248, 3) := dk_184 0 248 (dk_at dksX2_votedAt_1 0 rfl rfl)
theorem dX2_votedAt_27 : decode cX2_votedAt 27 = .ok (.ireturn, 1) := dk_172 (dk_at dksX2_votedAt_1 3 rfl rfl)
abbrev cX2_copyAt : ByteArray := prog_12_method_47_code
def yX2_copyAt : MethodName := ⟨RX2, "copyAt", "(IIII)I"⟩
def dkwX2_copyAt_0 : List UInt8 := [42, 27, 16, 89, 6, 16, 12, 28, 104, 29, 96, 104, 96, 21, 4, 96, 182, 0, 238, 172]
abbrev dktX2_copyAt_0 : List UInt8 := dkwX2_copyAt_0 ++ []
theorem dksX2_copyAt_0 : cX2_copyAt.data.toList.drop 0 = dktX2_copyAt_0 := by decide +kernel
theorem dX2_copyAt_0 : decode cX2_copyAt 0 = .ok (.aload_n 0, 1) := dk_42 (dk_at dksX2_copyAt_0 0 rfl rfl)
theorem dX2_copyAt_1 : decode cX2_copyAt 1 = .ok (.iload_n 1, 1) := dk_27 (dk_at dksX2_copyAt_0 1 rfl rfl)
theorem dX2_copyAt_2 : decode cX2_copyAt 2 = .ok (.bipush 89, 2) := dk_16 89 (dk_at dksX2_copyAt_0 2 rfl rfl)
theorem dX2_copyAt_4 : decode cX2_copyAt 4 = .ok (.iconst 3, 1) := dk_6 (dk_at dksX2_copyAt_0 4 rfl rfl)
theorem dX2_copyAt_5 : decode cX2_copyAt 5 = .ok (.bipush 12, 2) := dk_16 12 (dk_at dksX2_copyAt_0 5 rfl rfl)
theorem dX2_copyAt_7 : decode cX2_copyAt 7 = .ok (.iload_n 2, 1) := dk_28 (dk_at dksX2_copyAt_0 7 rfl rfl)
theorem dX2_copyAt_8 : decode cX2_copyAt 8 = .ok (.imul, 1) := dk_104 (dk_at dksX2_copyAt_0 8 rfl rfl)
theorem dX2_copyAt_9 : decode cX2_copyAt 9 = .ok (.iload_n 3, 1) := dk_29 (dk_at dksX2_copyAt_0 9 rfl rfl)
theorem dX2_copyAt_10 : decode cX2_copyAt 10 = .ok (.iadd, 1) := dk_96 (dk_at dksX2_copyAt_0 10 rfl rfl)
theorem dX2_copyAt_11 : decode cX2_copyAt 11 = .ok (.imul, 1) := dk_104 (dk_at dksX2_copyAt_0 11 rfl rfl)
theorem dX2_copyAt_12 : decode cX2_copyAt 12 = .ok (.iadd, 1) := dk_96 (dk_at dksX2_copyAt_0 12 rfl rfl)
theorem dX2_copyAt_13 : decode cX2_copyAt 13 = .ok (.iload 4, 2) := dk_21 4 (dk_at dksX2_copyAt_0 13 rfl rfl)
theorem dX2_copyAt_15 : decode cX2_copyAt 15 = .ok (.iadd, 1) := dk_96 (dk_at dksX2_copyAt_0 15 rfl rfl)
theorem dX2_copyAt_16 : decode cX2_copyAt 16 = .ok (.invokevirtual 238, 3) := dk_182 0 238 (dk_at dksX2_copyAt_0 16 rfl rfl)
theorem dX2_copyAt_19 : decode cX2_copyAt 19 = .ok (.ireturn, 1) := dk_172 (dk_at dksX2_copyAt_0 19 rfl rfl)
abbrev cX2_voted : ByteArray := prog_12_method_52_code
def yX2_voted : MethodName := ⟨RX2, "voted", "(III)I"⟩
def dkwX2_voted_1 : List UInt8 := [160, 0, 7, 27, 167, 0, 4, 2, 172]
abbrev dktX2_voted_1 : List UInt8 := dkwX2_voted_1 ++ []
def dkwX2_voted_0 : List UInt8 := [26, 2, 159, 0, 15, 26, 27, 159, 0, 8, 26, 28, 160, 0, 5, 26, 172, 27, 2, 159, 0, 12, 27, 28]
abbrev dktX2_voted_0 : List UInt8 := dkwX2_voted_0 ++ dktX2_voted_1
theorem dksX2_voted_0 : cX2_voted.data.toList.drop 0 = dktX2_voted_0 := by decide +kernel
theorem dksX2_voted_1 : cX2_voted.data.toList.drop 24 = dktX2_voted_1 := dk_seg dksX2_voted_0 24 rfl rfl
theorem dX2_voted_0 : decode cX2_voted 0 = .ok (.iload_n 0, 1) := dk_26 (dk_at dksX2_voted_0 0 rfl rfl)
theorem dX2_voted_1 : decode cX2_voted 1 = .ok (.iconst (-1), 1) := dk_2 (dk_at dksX2_voted_0 1 rfl rfl)
theorem dX2_voted_2 : decode cX2_voted 2 = .ok (.if_icmp .eq 15, 3) := dk_159 0 15 (dk_at dksX2_voted_0 2 rfl rfl)
theorem dX2_voted_5 : decode cX2_voted 5 = .ok (.iload_n 0, 1) := dk_26 (dk_at dksX2_voted_0 5 rfl rfl)
theorem dX2_voted_6 : decode cX2_voted 6 = .ok (.iload_n 1, 1) := dk_27 (dk_at dksX2_voted_0 6 rfl rfl)
theorem dX2_voted_7 : decode cX2_voted 7 = .ok (.if_icmp .eq 8, 3) := dk_159 0 8 (dk_at dksX2_voted_0 7 rfl rfl)
theorem dX2_voted_10 : decode cX2_voted 10 = .ok (.iload_n 0, 1) := dk_26 (dk_at dksX2_voted_0 10 rfl rfl)
theorem dX2_voted_11 : decode cX2_voted 11 = .ok (.iload_n 2, 1) := dk_28 (dk_at dksX2_voted_0 11 rfl rfl)
theorem dX2_voted_12 : decode cX2_voted 12 = .ok (.if_icmp .ne 5, 3) := dk_160 0 5 (dk_at dksX2_voted_0 12 rfl rfl)
theorem dX2_voted_15 : decode cX2_voted 15 = .ok (.iload_n 0, 1) := dk_26 (dk_at dksX2_voted_0 15 rfl rfl)
theorem dX2_voted_16 : decode cX2_voted 16 = .ok (.ireturn, 1) := dk_172 (dk_at dksX2_voted_0 16 rfl rfl)
theorem dX2_voted_17 : decode cX2_voted 17 = .ok (.iload_n 1, 1) := dk_27 (dk_at dksX2_voted_0 17 rfl rfl)
theorem dX2_voted_18 : decode cX2_voted 18 = .ok (.iconst (-1), 1) := dk_2 (dk_at dksX2_voted_0 18 rfl rfl)
theorem dX2_voted_19 : decode cX2_voted 19 = .ok (.if_icmp .eq 12, 3) := dk_159 0 12 (dk_at dksX2_voted_0 19 rfl rfl)
theorem dX2_voted_22 : decode cX2_voted 22 = .ok (.iload_n 1, 1) := dk_27 (dk_at dksX2_voted_0 22 rfl rfl)
theorem dX2_voted_23 : decode cX2_voted 23 = .ok (.iload_n 2, 1) := dk_28 (dk_at dksX2_voted_0 23 rfl rfl)
theorem dX2_voted_24 : decode cX2_voted 24 = .ok (.if_icmp .ne 7, 3) := dk_160 0 7 (dk_at dksX2_voted_1 0 rfl rfl)
theorem dX2_voted_27 : decode cX2_voted 27 = .ok (.iload_n 1, 1) := dk_27 (dk_at dksX2_voted_1 3 rfl rfl)
theorem dX2_voted_28 : decode cX2_voted 28 = .ok (.goto 4, 3) := dk_167 0 4 (dk_at dksX2_voted_1 4 rfl rfl)
theorem dX2_voted_31 : decode cX2_voted 31 = .ok (.iconst (-1), 1) := dk_2 (dk_at dksX2_voted_1 7 rfl rfl)
theorem dX2_voted_32 : decode cX2_voted 32 = .ok (.ireturn, 1) := dk_172 (dk_at dksX2_voted_1 8 rfl rfl)
abbrev cX2_lastLevel : ByteArray := prog_12_method_48_code
def yX2_lastLevel : MethodName := ⟨RX2, "lastLevel", "()I"⟩
def dkwX2_lastLevel_0 : List UInt8 := [42, 180, 0, 9, 3, 46, 4, 100, 172]
abbrev dktX2_lastLevel_0 : List UInt8 := dkwX2_lastLevel_0 ++ []
theorem dksX2_lastLevel_0 : cX2_lastLevel.data.toList.drop 0 = dktX2_lastLevel_0 := by decide +kernel
theorem dX2_lastLevel_0 : decode cX2_lastLevel 0 = .ok (.aload_n 0, 1) := dk_42 (dk_at dksX2_lastLevel_0 0 rfl rfl)
theorem dX2_lastLevel_1 : decode cX2_lastLevel 1 = .ok (.getfield 9, 3) := dk_180 0 9 (dk_at dksX2_lastLevel_0 1 rfl rfl)
theorem dX2_lastLevel_4 : decode cX2_lastLevel 4 = .ok (.iconst 0, 1) := dk_3 (dk_at dksX2_lastLevel_0 4 rfl rfl)
theorem dX2_lastLevel_5 : decode cX2_lastLevel 5 = .ok (.iaload, 1) := dk_46 (dk_at dksX2_lastLevel_0 5 rfl rfl)
theorem dX2_lastLevel_6 : decode cX2_lastLevel 6 = .ok (.iconst 1, 1) := dk_4 (dk_at dksX2_lastLevel_0 6 rfl rfl)
theorem dX2_lastLevel_7 : decode cX2_lastLevel 7 = .ok (.isub, 1) := dk_100 (dk_at dksX2_lastLevel_0 7 rfl rfl)
theorem dX2_lastLevel_8 : decode cX2_lastLevel 8 = .ok (.ireturn, 1) := dk_172 (dk_at dksX2_lastLevel_0 8 rfl rfl)
abbrev cX2_goesOn : ByteArray := prog_12_method_60_code
def yX2_goesOn : MethodName := ⟨RX2, "goesOn", "(I)V"⟩
def dkwX2_goesOn_4 : List UInt8 := [27, 182, 0, 188, 177]
abbrev dktX2_goesOn_4 : List UInt8 := dkwX2_goesOn_4 ++ []
def dkwX2_goesOn_3 : List UInt8 := [162, 0, 16, 42, 27, 28, 29, 182, 1, 14, 132, 3, 1, 167, 255, 236, 132, 2, 1, 167, 255, 223, 42, 4]
abbrev dktX2_goesOn_3 : List UInt8 := dkwX2_goesOn_3 ++ dktX2_goesOn_4
def dkwX2_goesOn_2 : List UInt8 := [27, 5, 3, 182, 0, 241, 3, 61, 28, 6, 162, 0, 34, 3, 62, 29, 42, 27, 3, 182, 0, 238]
abbrev dktX2_goesOn_2 : List UInt8 := dkwX2_goesOn_2 ++ dktX2_goesOn_3
def dkwX2_goesOn_1 : List UInt8 := [182, 0, 241, 132, 2, 1, 167, 255, 229, 42, 27, 4, 42, 27, 4, 182, 0, 238, 4, 96, 182, 0, 241, 42]
abbrev dktX2_goesOn_1 : List UInt8 := dkwX2_goesOn_1 ++ dktX2_goesOn_2
def dkwX2_goesOn_0 : List UInt8 := [3, 61, 28, 16, 36, 162, 0, 27, 42, 27, 16, 53, 28, 96, 42, 27, 16, 17, 28, 96, 182, 0, 238]
abbrev dktX2_goesOn_0 : List UInt8 := dkwX2_goesOn_0 ++ dktX2_goesOn_1
theorem dksX2_goesOn_0 : cX2_goesOn.data.toList.drop 0 = dktX2_goesOn_0 := by decide +kernel
theorem dksX2_goesOn_1 : cX2_goesOn.data.toList.drop 23 = dktX2_goesOn_1 := dk_seg dksX2_goesOn_0 23 rfl rfl
theorem dksX2_goesOn_2 : cX2_goesOn.data.toList.drop 47 = dktX2_goesOn_2 := dk_seg dksX2_goesOn_1 24 rfl rfl
theorem dksX2_goesOn_3 : cX2_goesOn.data.toList.drop 69 = dktX2_goesOn_3 := dk_seg dksX2_goesOn_2 22 rfl rfl
theorem dksX2_goesOn_4 : cX2_goesOn.data.toList.drop 93 = dktX2_goesOn_4 := dk_seg dksX2_goesOn_3 24 rfl rfl
theorem dX2_goesOn_0 : decode cX2_goesOn 0 = .ok (.iconst 0, 1) := dk_3 (dk_at dksX2_goesOn_0 0 rfl rfl)
theorem dX2_goesOn_1 : decode cX2_goesOn 1 = .ok (.istore_n 2, 1) := dk_61 (dk_at dksX2_goesOn_0 1 rfl rfl)
theorem dX2_goesOn_2 : decode cX2_goesOn 2 = .ok (.iload_n 2, 1) := dk_28 (dk_at dksX2_goesOn_0 2 rfl rfl)
theorem dX2_goesOn_3 : decode cX2_goesOn 3 = .ok (.bipush 36, 2) := dk_16 36 (dk_at dksX2_goesOn_0 3 rfl rfl)
theorem dX2_goesOn_5 : decode cX2_goesOn 5 = .ok (.if_icmp .ge 27, 3) := dk_162 0 27 (dk_at dksX2_goesOn_0 5 rfl rfl)
theorem dX2_goesOn_8 : decode cX2_goesOn 8 = .ok (.aload_n 0, 1) := dk_42 (dk_at dksX2_goesOn_0 8 rfl rfl)
theorem dX2_goesOn_9 : decode cX2_goesOn 9 = .ok (.iload_n 1, 1) := dk_27 (dk_at dksX2_goesOn_0 9 rfl rfl)
theorem dX2_goesOn_10 : decode cX2_goesOn 10 = .ok (.bipush 53, 2) := dk_16 53 (dk_at dksX2_goesOn_0 10 rfl rfl)
theorem dX2_goesOn_12 : decode cX2_goesOn 12 = .ok (.iload_n 2, 1) := dk_28 (dk_at dksX2_goesOn_0 12 rfl rfl)
theorem dX2_goesOn_13 : decode cX2_goesOn 13 = .ok (.iadd, 1) := dk_96 (dk_at dksX2_goesOn_0 13 rfl rfl)
theorem dX2_goesOn_14 : decode cX2_goesOn 14 = .ok (.aload_n 0, 1) := dk_42 (dk_at dksX2_goesOn_0 14 rfl rfl)
theorem dX2_goesOn_15 : decode cX2_goesOn 15 = .ok (.iload_n 1, 1) := dk_27 (dk_at dksX2_goesOn_0 15 rfl rfl)
theorem dX2_goesOn_16 : decode cX2_goesOn 16 = .ok (.bipush 17, 2) := dk_16 17 (dk_at dksX2_goesOn_0 16 rfl rfl)
theorem dX2_goesOn_18 : decode cX2_goesOn 18 = .ok (.iload_n 2, 1) := dk_28 (dk_at dksX2_goesOn_0 18 rfl rfl)
theorem dX2_goesOn_19 : decode cX2_goesOn 19 = .ok (.iadd, 1) := dk_96 (dk_at dksX2_goesOn_0 19 rfl rfl)
theorem dX2_goesOn_20 : decode cX2_goesOn 20 = .ok (.invokevirtual 238, 3) := dk_182 0 238 (dk_at dksX2_goesOn_0 20 rfl rfl)
theorem dX2_goesOn_23 : decode cX2_goesOn 23 = .ok (.invokevirtual 241, 3) := dk_182 0 241 (dk_at dksX2_goesOn_1 0 rfl rfl)
theorem dX2_goesOn_26 : decode cX2_goesOn 26 = .ok (.iinc 2 1, 3) := dk_132 2 1 (dk_at dksX2_goesOn_1 3 rfl rfl)
theorem dX2_goesOn_29 : decode cX2_goesOn 29 = .ok (.goto (-27), 3) := dk_167 255 229 (dk_at dksX2_goesOn_1 6 rfl rfl)
theorem dX2_goesOn_32 : decode cX2_goesOn 32 = .ok (.aload_n 0, 1) := dk_42 (dk_at dksX2_goesOn_1 9 rfl rfl)
theorem dX2_goesOn_33 : decode cX2_goesOn 33 = .ok (.iload_n 1, 1) := dk_27 (dk_at dksX2_goesOn_1 10 rfl rfl)
theorem dX2_goesOn_34 : decode cX2_goesOn 34 = .ok (.iconst 1, 1) := dk_4 (dk_at dksX2_goesOn_1 11 rfl rfl)
theorem dX2_goesOn_35 : decode cX2_goesOn 35 = .ok (.aload_n 0, 1) := dk_42 (dk_at dksX2_goesOn_1 12 rfl rfl)
theorem dX2_goesOn_36 : decode cX2_goesOn 36 = .ok (.iload_n 1, 1) := dk_27 (dk_at dksX2_goesOn_1 13 rfl rfl)
theorem dX2_goesOn_37 : decode cX2_goesOn 37 = .ok (.iconst 1, 1) := dk_4 (dk_at dksX2_goesOn_1 14 rfl rfl)
theorem dX2_goesOn_38 : decode cX2_goesOn 38 = .ok (.invokevirtual 238, 3) := dk_182 0 238 (dk_at dksX2_goesOn_1 15 rfl rfl)
theorem dX2_goesOn_41 : decode cX2_goesOn 41 = .ok (.iconst 1, 1) := dk_4 (dk_at dksX2_goesOn_1 18 rfl rfl)
theorem dX2_goesOn_42 : decode cX2_goesOn 42 = .ok (.iadd, 1) := dk_96 (dk_at dksX2_goesOn_1 19 rfl rfl)
theorem dX2_goesOn_43 : decode cX2_goesOn 43 = .ok (.invokevirtual 241, 3) := dk_182 0 241 (dk_at dksX2_goesOn_1 20 rfl rfl)
theorem dX2_goesOn_46 : decode cX2_goesOn 46 = .ok (.aload_n 0, 1) := dk_42 (dk_at dksX2_goesOn_1 23 rfl rfl)
theorem dX2_goesOn_47 : decode cX2_goesOn 47 = .ok (.iload_n 1, 1) := dk_27 (dk_at dksX2_goesOn_2 0 rfl rfl)
theorem dX2_goesOn_48 : decode cX2_goesOn 48 = .ok (.iconst 2, 1) := dk_5 (dk_at dksX2_goesOn_2 1 rfl rfl)
theorem dX2_goesOn_49 : decode cX2_goesOn 49 = .ok (.iconst 0, 1) := dk_3 (dk_at dksX2_goesOn_2 2 rfl rfl)
theorem dX2_goesOn_50 : decode cX2_goesOn 50 = .ok (.invokevirtual 241, 3) := dk_182 0 241 (dk_at dksX2_goesOn_2 3 rfl rfl)
theorem dX2_goesOn_53 : decode cX2_goesOn 53 = .ok (.iconst 0, 1) := dk_3 (dk_at dksX2_goesOn_2 6 rfl rfl)
theorem dX2_goesOn_54 : decode cX2_goesOn 54 = .ok (.istore_n 2, 1) := dk_61 (dk_at dksX2_goesOn_2 7 rfl rfl)
theorem dX2_goesOn_55 : decode cX2_goesOn 55 = .ok (.iload_n 2, 1) := dk_28 (dk_at dksX2_goesOn_2 8 rfl rfl)
theorem dX2_goesOn_56 : decode cX2_goesOn 56 = .ok (.iconst 3, 1) := dk_6 (dk_at dksX2_goesOn_2 9 rfl rfl)
theorem dX2_goesOn_57 : decode cX2_goesOn 57 = .ok (.if_icmp .ge 34, 3) := dk_162 0 34 (dk_at dksX2_goesOn_2 10 rfl rfl)
theorem dX2_goesOn_60 : decode cX2_goesOn 60 = .ok (.iconst 0, 1) := dk_3 (dk_at dksX2_goesOn_2 13 rfl rfl)
theorem dX2_goesOn_61 : decode cX2_goesOn 61 = .ok (.istore_n 3, 1) := dk_62 (dk_at dksX2_goesOn_2 14 rfl rfl)
theorem dX2_goesOn_62 : decode cX2_goesOn 62 = .ok (.iload_n 3, 1) := dk_29 (dk_at dksX2_goesOn_2 15 rfl rfl)
theorem dX2_goesOn_63 : decode cX2_goesOn 63 = .ok (.aload_n 0, 1) := dk_42 (dk_at dksX2_goesOn_2 16 rfl rfl)
theorem dX2_goesOn_64 : decode cX2_goesOn 64 = .ok (.iload_n 1, 1) := dk_27 (dk_at dksX2_goesOn_2 17 rfl rfl)
theorem dX2_goesOn_65 : decode cX2_goesOn 65 = .ok (.iconst 0, 1) := dk_3 (dk_at dksX2_goesOn_2 18 rfl rfl)
theorem dX2_goesOn_66 : decode cX2_goesOn 66 = .ok (.invokevirtual 238, 3) := dk_182 0 238 (dk_at dksX2_goesOn_2 19 rfl rfl)
theorem dX2_goesOn_69 : decode cX2_goesOn 69 = .ok (.if_icmp .ge 16, 3) := dk_162 0 16 (dk_at dksX2_goesOn_3 0 rfl rfl)
theorem dX2_goesOn_72 : decode cX2_goesOn 72 = .ok (.aload_n 0, 1) := dk_42 (dk_at dksX2_goesOn_3 3 rfl rfl)
theorem dX2_goesOn_73 : decode cX2_goesOn 73 = .ok (.iload_n 1, 1) := dk_27 (dk_at dksX2_goesOn_3 4 rfl rfl)
theorem dX2_goesOn_74 : decode cX2_goesOn 74 = .ok (.iload_n 2, 1) := dk_28 (dk_at dksX2_goesOn_3 5 rfl rfl)
theorem dX2_goesOn_75 : decode cX2_goesOn 75 = .ok (.iload_n 3, 1) := dk_29 (dk_at dksX2_goesOn_3 6 rfl rfl)
theorem dX2_goesOn_76 : decode cX2_goesOn 76 = .ok (.invokevirtual 270, 3) := dk_182 1 14 (dk_at dksX2_goesOn_3 7 rfl rfl)
theorem dX2_goesOn_79 : decode cX2_goesOn 79 = .ok (.iinc 3 1, 3) := dk_132 3 1 (dk_at dksX2_goesOn_3 10 rfl rfl)
theorem dX2_goesOn_82 : decode cX2_goesOn 82 = .ok (.goto (-20), 3) := dk_167 255 236 (dk_at dksX2_goesOn_3 13 rfl rfl)
theorem dX2_goesOn_85 : decode cX2_goesOn 85 = .ok (.iinc 2 1, 3) := dk_132 2 1 (dk_at dksX2_goesOn_3 16 rfl rfl)
theorem dX2_goesOn_88 : decode cX2_goesOn 88 = .ok (.goto (-33), 3) := dk_167 255 223 (dk_at dksX2_goesOn_3 19 rfl rfl)
theorem dX2_goesOn_91 : decode cX2_goesOn 91 = .ok (.aload_n 0, 1) := dk_42 (dk_at dksX2_goesOn_3 22 rfl rfl)
theorem dX2_goesOn_92 : decode cX2_goesOn 92 = .ok (.iconst 1, 1) := dk_4 (dk_at dksX2_goesOn_3 23 rfl rfl)
theorem dX2_goesOn_93 : decode cX2_goesOn 93 = .ok (.iload_n 1, 1) := dk_27 (dk_at dksX2_goesOn_4 0 rfl rfl)
theorem dX2_goesOn_94 : decode cX2_goesOn 94 = .ok (.invokevirtual 188, 3) := dk_182 0 188 (dk_at dksX2_goesOn_4 1 rfl rfl)
theorem dX2_goesOn_97 : decode cX2_goesOn 97 = .ok (.return_, 1) := dk_177 (dk_at dksX2_goesOn_4 4 rfl rfl)
abbrev cX2_mayArrive : ByteArray := prog_12_method_61_code
def yX2_mayArrive : MethodName := ⟨RX2, "mayArrive", "(I)Z"⟩
def dkwX2_mayArrive_1 : List UInt8 := [182, 0, 238, 42, 180, 0, 9, 4, 46, 161, 0, 7, 4, 167, 0, 4, 3, 172]
abbrev dktX2_mayArrive_1 : List UInt8 := dkwX2_mayArrive_1 ++ []
def dkwX2_mayArrive_0 : List UInt8 := [42, 27, 4, 182, 0, 238, 42, 182, 1, 17, 160, 0, 30, 42, 27, 182, 1, 11, 153, 0, 18, 42, 27, 5]
abbrev dktX2_mayArrive_0 : List UInt8 := dkwX2_mayArrive_0 ++ dktX2_mayArrive_1
theorem dksX2_mayArrive_0 : cX2_mayArrive.data.toList.drop 0 = dktX2_mayArrive_0 := by decide +kernel
theorem dksX2_mayArrive_1 : cX2_mayArrive.data.toList.drop 24 = dktX2_mayArrive_1 := dk_seg dksX2_mayArrive_0 24 rfl rfl
theorem dX2_mayArrive_0 : decode cX2_mayArrive 0 = .ok (.aload_n 0, 1) := dk_42 (dk_at dksX2_mayArrive_0 0 rfl rfl)
theorem dX2_mayArrive_1 : decode cX2_mayArrive 1 = .ok (.iload_n 1, 1) := dk_27 (dk_at dksX2_mayArrive_0 1 rfl rfl)
theorem dX2_mayArrive_2 : decode cX2_mayArrive 2 = .ok (.iconst 1, 1) := dk_4 (dk_at dksX2_mayArrive_0 2 rfl rfl)
theorem dX2_mayArrive_3 : decode cX2_mayArrive 3 = .ok (.invokevirtual 238, 3) := dk_182 0 238 (dk_at dksX2_mayArrive_0 3 rfl rfl)
theorem dX2_mayArrive_6 : decode cX2_mayArrive 6 = .ok (.aload_n 0, 1) := dk_42 (dk_at dksX2_mayArrive_0 6 rfl rfl)
theorem dX2_mayArrive_7 : decode cX2_mayArrive 7 = .ok (.invokevirtual 273, 3) := dk_182 1 17 (dk_at dksX2_mayArrive_0 7 rfl rfl)
theorem dX2_mayArrive_10 : decode cX2_mayArrive 10 = .ok (.if_icmp .ne 30, 3) := dk_160 0 30 (dk_at dksX2_mayArrive_0 10 rfl rfl)
theorem dX2_mayArrive_13 : decode cX2_mayArrive 13 = .ok (.aload_n 0, 1) := dk_42 (dk_at dksX2_mayArrive_0 13 rfl rfl)
theorem dX2_mayArrive_14 : decode cX2_mayArrive 14 = .ok (.iload_n 1, 1) := dk_27 (dk_at dksX2_mayArrive_0 14 rfl rfl)
theorem dX2_mayArrive_15 : decode cX2_mayArrive 15 = .ok (.invokevirtual 267, 3) := dk_182 1 11 (dk_at dksX2_mayArrive_0 15 rfl rfl)
theorem dX2_mayArrive_18 : decode cX2_mayArrive 18 = .ok (.ifCond .eq 18, 3) := dk_153 0 18 (dk_at dksX2_mayArrive_0 18 rfl rfl)
theorem dX2_mayArrive_21 : decode cX2_mayArrive 21 = .ok (.aload_n 0, 1) := dk_42 (dk_at dksX2_mayArrive_0 21 rfl rfl)
theorem dX2_mayArrive_22 : decode cX2_mayArrive 22 = .ok (.iload_n 1, 1) := dk_27 (dk_at dksX2_mayArrive_0 22 rfl rfl)
theorem dX2_mayArrive_23 : decode cX2_mayArrive 23 = .ok (.iconst 2, 1) := dk_5 (dk_at dksX2_mayArrive_0 23 rfl rfl)
theorem dX2_mayArrive_24 : decode cX2_mayArrive 24 = .ok (.invokevirtual 238, 3) := dk_182 0 238 (dk_at dksX2_mayArrive_1 0 rfl rfl)
theorem dX2_mayArrive_27 : decode cX2_mayArrive 27 = .ok (.aload_n 0, 1) := dk_42 (dk_at dksX2_mayArrive_1 3 rfl rfl)
theorem dX2_mayArrive_28 : decode cX2_mayArrive 28 = .ok (.getfield 9, 3) := dk_180 0 9 (dk_at dksX2_mayArrive_1 4 rfl rfl)
theorem dX2_mayArrive_31 : decode cX2_mayArrive 31 = .ok (.iconst 1, 1) := dk_4 (dk_at dksX2_mayArrive_1 7 rfl rfl)
theorem dX2_mayArrive_32 : decode cX2_mayArrive 32 = .ok (.iaload, 1) := dk_46 (dk_at dksX2_mayArrive_1 8 rfl rfl)
theorem dX2_mayArrive_33 : decode cX2_mayArrive 33 = .ok (.if_icmp .lt 7, 3) := dk_161 0 7 (dk_at dksX2_mayArrive_1 9 rfl rfl)
theorem dX2_mayArrive_36 : decode cX2_mayArrive 36 = .ok (.iconst 1, 1) := dk_4 (dk_at dksX2_mayArrive_1 12 rfl rfl)
theorem dX2_mayArrive_37 : decode cX2_mayArrive 37 = .ok (.goto 4, 3) := dk_167 0 4 (dk_at dksX2_mayArrive_1 13 rfl rfl)
theorem dX2_mayArrive_40 : decode cX2_mayArrive 40 = .ok (.iconst 0, 1) := dk_3 (dk_at dksX2_mayArrive_1 16 rfl rfl)
theorem dX2_mayArrive_41 : decode cX2_mayArrive 41 = .ok (.ireturn, 1) := dk_172 (dk_at dksX2_mayArrive_1 17 rfl rfl)
abbrev cX2_readsOther : ByteArray := prog_12_method_31_code
def yX2_readsOther : MethodName := ⟨RX2, "readsOther", "()V"⟩
def dkwX2_readsOther_3 : List UInt8 := [182, 0, 154, 153, 0, 10, 42, 182, 0, 178, 167, 0, 8, 42, 4, 182, 0, 110, 177]
abbrev dktX2_readsOther_3 : List UInt8 := dkwX2_readsOther_3 ++ []
def dkwX2_readsOther_2 : List UInt8 := [167, 0, 40, 42, 18, 171, 182, 0, 154, 153, 0, 10, 42, 182, 0, 173, 167, 0, 24, 42, 18, 176]
abbrev dktX2_readsOther_2 : List UInt8 := dkwX2_readsOther_2 ++ dktX2_readsOther_3
def dkwX2_readsOther_1 : List UInt8 := [153, 0, 10, 42, 182, 0, 163, 167, 0, 56, 42, 18, 166, 182, 0, 154, 153, 0, 10, 42, 182, 0, 168]
abbrev dktX2_readsOther_1 : List UInt8 := dkwX2_readsOther_1 ++ dktX2_readsOther_2
def dkwX2_readsOther_0 : List UInt8 := [42, 18, 152, 182, 0, 154, 153, 0, 11, 42, 3, 182, 0, 158, 167, 0, 72, 42, 18, 161, 182, 0, 154]
abbrev dktX2_readsOther_0 : List UInt8 := dkwX2_readsOther_0 ++ dktX2_readsOther_1
theorem dksX2_readsOther_0 : cX2_readsOther.data.toList.drop 0 = dktX2_readsOther_0 := by decide +kernel
theorem dksX2_readsOther_1 : cX2_readsOther.data.toList.drop 23 = dktX2_readsOther_1 := dk_seg dksX2_readsOther_0 23 rfl rfl
theorem dksX2_readsOther_2 : cX2_readsOther.data.toList.drop 46 = dktX2_readsOther_2 := dk_seg dksX2_readsOther_1 23 rfl rfl
theorem dksX2_readsOther_3 : cX2_readsOther.data.toList.drop 68 = dktX2_readsOther_3 := dk_seg dksX2_readsOther_2 22 rfl rfl
theorem dX2_readsOther_0 : decode cX2_readsOther 0 = .ok (.aload_n 0, 1) := dk_42 (dk_at dksX2_readsOther_0 0 rfl rfl)
theorem dX2_readsOther_1 : decode cX2_readsOther 1 = .ok (.ldc 152, 2) := dk_18 152 (dk_at dksX2_readsOther_0 1 rfl rfl)
theorem dX2_readsOther_3 : decode cX2_readsOther 3 = .ok (.invokevirtual 154, 3) := dk_182 0 154 (dk_at dksX2_readsOther_0 3 rfl rfl)
theorem dX2_readsOther_6 : decode cX2_readsOther 6 = .ok (.ifCond .eq 11, 3) := dk_153 0 11 (dk_at dksX2_readsOther_0 6 rfl rfl)
theorem dX2_readsOther_9 : decode cX2_readsOther 9 = .ok (.aload_n 0, 1) := dk_42 (dk_at dksX2_readsOther_0 9 rfl rfl)
theorem dX2_readsOther_10 : decode cX2_readsOther 10 = .ok (.iconst 0, 1) := dk_3 (dk_at dksX2_readsOther_0 10 rfl rfl)
theorem dX2_readsOther_11 : decode cX2_readsOther 11 = .ok (.invokevirtual 158, 3) := dk_182 0 158 (dk_at dksX2_readsOther_0 11 rfl rfl)
theorem dX2_readsOther_14 : decode cX2_readsOther 14 = .ok (.goto 72, 3) := dk_167 0 72 (dk_at dksX2_readsOther_0 14 rfl rfl)
theorem dX2_readsOther_17 : decode cX2_readsOther 17 = .ok (.aload_n 0, 1) := dk_42 (dk_at dksX2_readsOther_0 17 rfl rfl)
theorem dX2_readsOther_18 : decode cX2_readsOther 18 = .ok (.ldc 161, 2) := dk_18 161 (dk_at dksX2_readsOther_0 18 rfl rfl)
theorem dX2_readsOther_20 : decode cX2_readsOther 20 = .ok (.invokevirtual 154, 3) := dk_182 0 154 (dk_at dksX2_readsOther_0 20 rfl rfl)
theorem dX2_readsOther_23 : decode cX2_readsOther 23 = .ok (.ifCond .eq 10, 3) := dk_153 0 10 (dk_at dksX2_readsOther_1 0 rfl rfl)
theorem dX2_readsOther_26 : decode cX2_readsOther 26 = .ok (.aload_n 0, 1) := dk_42 (dk_at dksX2_readsOther_1 3 rfl rfl)
theorem dX2_readsOther_27 : decode cX2_readsOther 27 = .ok (.invokevirtual 163, 3) := dk_182 0 163 (dk_at dksX2_readsOther_1 4 rfl rfl)
theorem dX2_readsOther_30 : decode cX2_readsOther 30 = .ok (.goto 56, 3) := dk_167 0 56 (dk_at dksX2_readsOther_1 7 rfl rfl)
theorem dX2_readsOther_33 : decode cX2_readsOther 33 = .ok (.aload_n 0, 1) := dk_42 (dk_at dksX2_readsOther_1 10 rfl rfl)
theorem dX2_readsOther_34 : decode cX2_readsOther 34 = .ok (.ldc 166, 2) := dk_18 166 (dk_at dksX2_readsOther_1 11 rfl rfl)
theorem dX2_readsOther_36 : decode cX2_readsOther 36 = .ok (.invokevirtual 154, 3) := dk_182 0 154 (dk_at dksX2_readsOther_1 13 rfl rfl)
theorem dX2_readsOther_39 : decode cX2_readsOther 39 = .ok (.ifCond .eq 10, 3) := dk_153 0 10 (dk_at dksX2_readsOther_1 16 rfl rfl)
theorem dX2_readsOther_42 : decode cX2_readsOther 42 = .ok (.aload_n 0, 1) := dk_42 (dk_at dksX2_readsOther_1 19 rfl rfl)
theorem dX2_readsOther_43 : decode cX2_readsOther 43 = .ok (.invokevirtual 168, 3) := dk_182 0 168 (dk_at dksX2_readsOther_1 20 rfl rfl)
theorem dX2_readsOther_46 : decode cX2_readsOther 46 = .ok (.goto 40, 3) := dk_167 0 40 (dk_at dksX2_readsOther_2 0 rfl rfl)
theorem dX2_readsOther_49 : decode cX2_readsOther 49 = .ok (.aload_n 0, 1) := dk_42 (dk_at dksX2_readsOther_2 3 rfl rfl)
theorem dX2_readsOther_50 : decode cX2_readsOther 50 = .ok (.ldc 171, 2) := dk_18 171 (dk_at dksX2_readsOther_2 4 rfl rfl)
theorem dX2_readsOther_52 : decode cX2_readsOther 52 = .ok (.invokevirtual 154, 3) := dk_182 0 154 (dk_at dksX2_readsOther_2 6 rfl rfl)
theorem dX2_readsOther_55 : decode cX2_readsOther 55 = .ok (.ifCond .eq 10, 3) := dk_153 0 10 (dk_at dksX2_readsOther_2 9 rfl rfl)
theorem dX2_readsOther_58 : decode cX2_readsOther 58 = .ok (.aload_n 0, 1) := dk_42 (dk_at dksX2_readsOther_2 12 rfl rfl)
theorem dX2_readsOther_59 : decode cX2_readsOther 59 = .ok (.invokevirtual 173, 3) := dk_182 0 173 (dk_at dksX2_readsOther_2 13 rfl rfl)
theorem dX2_readsOther_62 : decode cX2_readsOther 62 = .ok (.goto 24, 3) := dk_167 0 24 (dk_at dksX2_readsOther_2 16 rfl rfl)
theorem dX2_readsOther_65 : decode cX2_readsOther 65 = .ok (.aload_n 0, 1) := dk_42 (dk_at dksX2_readsOther_2 19 rfl rfl)
theorem dX2_readsOther_66 : decode cX2_readsOther 66 = .ok (.ldc 176, 2) := dk_18 176 (dk_at dksX2_readsOther_2 20 rfl rfl)
theorem dX2_readsOther_68 : decode cX2_readsOther 68 = .ok (.invokevirtual 154, 3) := dk_182 0 154 (dk_at dksX2_readsOther_3 0 rfl rfl)
theorem dX2_readsOther_71 : decode cX2_readsOther 71 = .ok (.ifCond .eq 10, 3) := dk_153 0 10 (dk_at dksX2_readsOther_3 3 rfl rfl)
theorem dX2_readsOther_74 : decode cX2_readsOther 74 = .ok (.aload_n 0, 1) := dk_42 (dk_at dksX2_readsOther_3 6 rfl rfl)
theorem dX2_readsOther_75 : decode cX2_readsOther 75 = .ok (.invokevirtual 178, 3) := dk_182 0 178 (dk_at dksX2_readsOther_3 7 rfl rfl)
theorem dX2_readsOther_78 : decode cX2_readsOther 78 = .ok (.goto 8, 3) := dk_167 0 8 (dk_at dksX2_readsOther_3 10 rfl rfl)
theorem dX2_readsOther_81 : decode cX2_readsOther 81 = .ok (.aload_n 0, 1) := dk_42 (dk_at dksX2_readsOther_3 13 rfl rfl)
theorem dX2_readsOther_82 : decode cX2_readsOther 82 = .ok (.iconst 1, 1) := dk_4 (dk_at dksX2_readsOther_3 14 rfl rfl)
theorem dX2_readsOther_83 : decode cX2_readsOther 83 = .ok (.invokevirtual 110, 3) := dk_182 0 110 (dk_at dksX2_readsOther_3 15 rfl rfl)
theorem dX2_readsOther_86 : decode cX2_readsOther 86 = .ok (.return_, 1) := dk_177 (dk_at dksX2_readsOther_3 18 rfl rfl)
abbrev cX2_readsSame : ByteArray := prog_12_method_27_code
def yX2_readsSame : MethodName := ⟨RX2, "readsSame", "()V"⟩
def dkwX2_readsSame_2 : List UInt8 := [182, 0, 140, 62, 177]
abbrev dktX2_readsSame_2 : List UInt8 := dkwX2_readsSame_2 ++ []
def dkwX2_readsSame_1 : List UInt8 := [182, 0, 123, 60, 42, 4, 16, 12, 182, 0, 123, 61, 42, 180, 0, 71, 158, 0, 4, 177, 42, 27, 28]
abbrev dktX2_readsSame_1 : List UInt8 := dkwX2_readsSame_1 ++ dktX2_readsSame_2
def dkwX2_readsSame_0 : List UInt8 := [42, 180, 0, 9, 6, 46, 16, 6, 160, 0, 8, 42, 6, 182, 0, 110, 42, 182, 0, 120, 42, 3, 16, 9]
abbrev dktX2_readsSame_0 : List UInt8 := dkwX2_readsSame_0 ++ dktX2_readsSame_1
theorem dksX2_readsSame_0 : cX2_readsSame.data.toList.drop 0 = dktX2_readsSame_0 := by decide +kernel
theorem dksX2_readsSame_1 : cX2_readsSame.data.toList.drop 24 = dktX2_readsSame_1 := dk_seg dksX2_readsSame_0 24 rfl rfl
theorem dksX2_readsSame_2 : cX2_readsSame.data.toList.drop 47 = dktX2_readsSame_2 := dk_seg dksX2_readsSame_1 23 rfl rfl
theorem dX2_readsSame_0 : decode cX2_readsSame 0 = .ok (.aload_n 0, 1) := dk_42 (dk_at dksX2_readsSame_0 0 rfl rfl)
theorem dX2_readsSame_1 : decode cX2_readsSame 1 = .ok (.getfield 9, 3) := dk_180 0 9 (dk_at dksX2_readsSame_0 1 rfl rfl)
theorem dX2_readsSame_4 : decode cX2_readsSame 4 = .ok (.iconst 3, 1) := dk_6 (dk_at dksX2_readsSame_0 4 rfl rfl)
theorem dX2_readsSame_5 : decode cX2_readsSame 5 = .ok (.iaload, 1) := dk_46 (dk_at dksX2_readsSame_0 5 rfl rfl)
theorem dX2_readsSame_6 : decode cX2_readsSame 6 = .ok (.bipush 6, 2) := dk_16 6 (dk_at dksX2_readsSame_0 6 rfl rfl)
theorem dX2_readsSame_8 : decode cX2_readsSame 8 = .ok (.if_icmp .ne 8, 3) := dk_160 0 8 (dk_at dksX2_readsSame_0 8 rfl rfl)
theorem dX2_readsSame_11 : decode cX2_readsSame 11 = .ok (.aload_n 0, 1) := dk_42 (dk_at dksX2_readsSame_0 11 rfl rfl)
theorem dX2_readsSame_12 : decode cX2_readsSame 12 = .ok (.iconst 3, 1) := dk_6 (dk_at dksX2_readsSame_0 12 rfl rfl)
theorem dX2_readsSame_13 : decode cX2_readsSame 13 = .ok (.invokevirtual 110, 3) := dk_182 0 110 (dk_at dksX2_readsSame_0 13 rfl rfl)
theorem dX2_readsSame_16 : decode cX2_readsSame 16 = .ok (.aload_n 0, 1) := dk_42 (dk_at dksX2_readsSame_0 16 rfl rfl)
theorem dX2_readsSame_17 : decode cX2_readsSame 17 = .ok (.invokevirtual 120, 3) := dk_182 0 120 (dk_at dksX2_readsSame_0 17 rfl rfl)
theorem dX2_readsSame_20 : decode cX2_readsSame 20 = .ok (.aload_n 0, 1) := dk_42 (dk_at dksX2_readsSame_0 20 rfl rfl)
theorem dX2_readsSame_21 : decode cX2_readsSame 21 = .ok (.iconst 0, 1) := dk_3 (dk_at dksX2_readsSame_0 21 rfl rfl)
theorem dX2_readsSame_22 : decode cX2_readsSame 22 = .ok (.bipush 9, 2) := dk_16 9 (dk_at dksX2_readsSame_0 22 rfl rfl)
theorem dX2_readsSame_24 : decode cX2_readsSame 24 = .ok (.invokevirtual 123, 3) := dk_182 0 123 (dk_at dksX2_readsSame_1 0 rfl rfl)
theorem dX2_readsSame_27 : decode cX2_readsSame 27 = .ok (.istore_n 1, 1) := dk_60 (dk_at dksX2_readsSame_1 3 rfl rfl)
theorem dX2_readsSame_28 : decode cX2_readsSame 28 = .ok (.aload_n 0, 1) := dk_42 (dk_at dksX2_readsSame_1 4 rfl rfl)
theorem dX2_readsSame_29 : decode cX2_readsSame 29 = .ok (.iconst 1, 1) := dk_4 (dk_at dksX2_readsSame_1 5 rfl rfl)
theorem dX2_readsSame_30 : decode cX2_readsSame 30 = .ok (.bipush 12, 2) := dk_16 12 (dk_at dksX2_readsSame_1 6 rfl rfl)
theorem dX2_readsSame_32 : decode cX2_readsSame 32 = .ok (.invokevirtual 123, 3) := dk_182 0 123 (dk_at dksX2_readsSame_1 8 rfl rfl)
theorem dX2_readsSame_35 : decode cX2_readsSame 35 = .ok (.istore_n 2, 1) := dk_61 (dk_at dksX2_readsSame_1 11 rfl rfl)
theorem dX2_readsSame_36 : decode cX2_readsSame 36 = .ok (.aload_n 0, 1) := dk_42 (dk_at dksX2_readsSame_1 12 rfl rfl)
theorem dX2_readsSame_37 : decode cX2_readsSame 37 = .ok (.getfield 71, 3) := dk_180 0 71 (dk_at dksX2_readsSame_1 13 rfl rfl)
theorem dX2_readsSame_40 : decode cX2_readsSame 40 = .ok (.ifCond .le 4, 3) := dk_158 0 4 (dk_at dksX2_readsSame_1 16 rfl rfl)
theorem dX2_readsSame_43 : decode cX2_readsSame 43 = .ok (.return_, 1) := dk_177 (dk_at dksX2_readsSame_1 19 rfl rfl)
theorem dX2_readsSame_44 : decode cX2_readsSame 44 = .ok (.aload_n 0, 1) := dk_42 (dk_at dksX2_readsSame_1 20 rfl rfl)
theorem dX2_readsSame_45 : decode cX2_readsSame 45 = .ok (.iload_n 1, 1) := dk_27 (dk_at dksX2_readsSame_1 21 rfl rfl)
theorem dX2_readsSame_46 : decode cX2_readsSame 46 = .ok (.iload_n 2, 1) := dk_28 (dk_at dksX2_readsSame_1 22 rfl rfl)
theorem dX2_readsSame_47 : decode cX2_readsSame 47 = .ok (.invokevirtual 140, 3) := dk_182 0 140 (dk_at dksX2_readsSame_2 0 rfl rfl)
theorem dX2_readsSame_50 : decode cX2_readsSame 50 = .ok (.istore_n 3, 1) := dk_62 (dk_at dksX2_readsSame_2 3 rfl rfl)
theorem dX2_readsSame_51 : decode cX2_readsSame 51 = .ok (.return_, 1) := dk_177 (dk_at dksX2_readsSame_2 4 rfl rfl)
abbrev cX2_sendsSame : ByteArray := prog_12_method_150_code
def yX2_sendsSame : MethodName := ⟨RX2, "sendsSame", "(II)I"⟩
def dkwX2_sendsSame_1 : List UInt8 := [132, 4, 1, 167, 255, 239, 42, 3, 29, 182, 0, 188, 29, 172]
abbrev dktX2_sendsSame_1 : List UInt8 := dkwX2_sendsSame_1 ++ []
def dkwX2_sendsSame_0 : List UInt8 := [42, 28, 182, 0, 181, 62, 3, 54, 4, 21, 4, 28, 162, 0, 17, 42, 29, 21, 4, 27, 182, 0, 185]
abbrev dktX2_sendsSame_0 : List UInt8 := dkwX2_sendsSame_0 ++ dktX2_sendsSame_1
theorem dksX2_sendsSame_0 : cX2_sendsSame.data.toList.drop 0 = dktX2_sendsSame_0 := by decide +kernel
theorem dksX2_sendsSame_1 : cX2_sendsSame.data.toList.drop 23 = dktX2_sendsSame_1 := dk_seg dksX2_sendsSame_0 23 rfl rfl
theorem dX2_sendsSame_0 : decode cX2_sendsSame 0 = .ok (.aload_n 0, 1) := dk_42 (dk_at dksX2_sendsSame_0 0 rfl rfl)
theorem dX2_sendsSame_1 : decode cX2_sendsSame 1 = .ok (.iload_n 2, 1) := dk_28 (dk_at dksX2_sendsSame_0 1 rfl rfl)
theorem dX2_sendsSame_2 : decode cX2_sendsSame 2 = .ok (.invokevirtual 181, 3) := dk_182 0 181 (dk_at dksX2_sendsSame_0 2 rfl rfl)
theorem dX2_sendsSame_5 : decode cX2_sendsSame 5 = .ok (.istore_n 3, 1) := dk_62 (dk_at dksX2_sendsSame_0 5 rfl rfl)
theorem dX2_sendsSame_6 : decode cX2_sendsSame 6 = .ok (.iconst 0, 1) := dk_3 (dk_at dksX2_sendsSame_0 6 rfl rfl)
theorem dX2_sendsSame_7 : decode cX2_sendsSame 7 = .ok (.istore 4, 2) := dk_54 4 (dk_at dksX2_sendsSame_0 7 rfl rfl)
theorem dX2_sendsSame_9 : decode cX2_sendsSame 9 = .ok (.iload 4, 2) := dk_21 4 (dk_at dksX2_sendsSame_0 9 rfl rfl)
theorem dX2_sendsSame_11 : decode cX2_sendsSame 11 = .ok (.iload_n 2, 1) := dk_28 (dk_at dksX2_sendsSame_0 11 rfl rfl)
theorem dX2_sendsSame_12 : decode cX2_sendsSame 12 = .ok (.if_icmp .ge 17, 3) := dk_162 0 17 (dk_at dksX2_sendsSame_0 12 rfl rfl)
theorem dX2_sendsSame_15 : decode cX2_sendsSame 15 = .ok (.aload_n 0, 1) := dk_42 (dk_at dksX2_sendsSame_0 15 rfl rfl)
theorem dX2_sendsSame_16 : decode cX2_sendsSame 16 = .ok (.iload_n 3, 1) := dk_29 (dk_at dksX2_sendsSame_0 16 rfl rfl)
theorem dX2_sendsSame_17 : decode cX2_sendsSame 17 = .ok (.iload 4, 2) := dk_21 4 (dk_at dksX2_sendsSame_0 17 rfl rfl)
theorem dX2_sendsSame_19 : decode cX2_sendsSame 19 = .ok (.iload_n 1, 1) := dk_27 (dk_at dksX2_sendsSame_0 19 rfl rfl)
theorem dX2_sendsSame_20 : decode cX2_sendsSame 20 = .ok (.invokevirtual 185, 3) := dk_182 0 185 (dk_at dksX2_sendsSame_0 20 rfl rfl)
theorem dX2_sendsSame_23 : decode cX2_sendsSame 23 = .ok (.iinc 4 1, 3) := dk_132 4 1 (dk_at dksX2_sendsSame_1 0 rfl rfl)
theorem dX2_sendsSame_26 : decode cX2_sendsSame 26 = .ok (.goto (-17), 3) := dk_167 255 239 (dk_at dksX2_sendsSame_1 3 rfl rfl)
theorem dX2_sendsSame_29 : decode cX2_sendsSame 29 = .ok (.aload_n 0, 1) := dk_42 (dk_at dksX2_sendsSame_1 6 rfl rfl)
theorem dX2_sendsSame_30 : decode cX2_sendsSame 30 = .ok (.iconst 0, 1) := dk_3 (dk_at dksX2_sendsSame_1 7 rfl rfl)
theorem dX2_sendsSame_31 : decode cX2_sendsSame 31 = .ok (.iload_n 3, 1) := dk_29 (dk_at dksX2_sendsSame_1 8 rfl rfl)
theorem dX2_sendsSame_32 : decode cX2_sendsSame 32 = .ok (.invokevirtual 188, 3) := dk_182 0 188 (dk_at dksX2_sendsSame_1 9 rfl rfl)
theorem dX2_sendsSame_35 : decode cX2_sendsSame 35 = .ok (.iload_n 3, 1) := dk_29 (dk_at dksX2_sendsSame_1 12 rfl rfl)
theorem dX2_sendsSame_36 : decode cX2_sendsSame 36 = .ok (.ireturn, 1) := dk_172 (dk_at dksX2_sendsSame_1 13 rfl rfl)
abbrev cX2_readsAsks : ByteArray := prog_12_method_28_code
def yX2_readsAsks : MethodName := ⟨RX2, "readsAsks", "()V"⟩
def dkwX2_readsAsks_1 : List UInt8 := [79, 177]
abbrev dktX2_readsAsks_1 : List UInt8 := dkwX2_readsAsks_1 ++ []
def dkwX2_readsAsks_0 : List UInt8 := [42, 182, 0, 120, 42, 3, 8, 182, 0, 123, 60, 42, 180, 0, 71, 154, 0, 10, 42, 180, 0, 9, 4, 27]
abbrev dktX2_readsAsks_0 : List UInt8 := dkwX2_readsAsks_0 ++ dktX2_readsAsks_1
theorem dksX2_readsAsks_0 : cX2_readsAsks.data.toList.drop 0 = dktX2_readsAsks_0 := by decide +kernel
theorem dksX2_readsAsks_1 : cX2_readsAsks.data.toList.drop 24 = dktX2_readsAsks_1 := dk_seg dksX2_readsAsks_0 24 rfl rfl
theorem dX2_readsAsks_0 : decode cX2_readsAsks 0 = .ok (.aload_n 0, 1) := dk_42 (dk_at dksX2_readsAsks_0 0 rfl rfl)
theorem dX2_readsAsks_1 : decode cX2_readsAsks 1 = .ok (.invokevirtual 120, 3) := dk_182 0 120 (dk_at dksX2_readsAsks_0 1 rfl rfl)
theorem dX2_readsAsks_4 : decode cX2_readsAsks 4 = .ok (.aload_n 0, 1) := dk_42 (dk_at dksX2_readsAsks_0 4 rfl rfl)
theorem dX2_readsAsks_5 : decode cX2_readsAsks 5 = .ok (.iconst 0, 1) := dk_3 (dk_at dksX2_readsAsks_0 5 rfl rfl)
theorem dX2_readsAsks_6 : decode cX2_readsAsks 6 = .ok (.iconst 5, 1) := dk_8 (dk_at dksX2_readsAsks_0 6 rfl rfl)
theorem dX2_readsAsks_7 : decode cX2_readsAsks 7 = .ok (.invokevirtual 123, 3) := dk_182 0 123 (dk_at dksX2_readsAsks_0 7 rfl rfl)
theorem dX2_readsAsks_10 : decode cX2_readsAsks 10 = .ok (.istore_n 1, 1) := dk_60 (dk_at dksX2_readsAsks_0 10 rfl rfl)
theorem dX2_readsAsks_11 : decode cX2_readsAsks 11 = .ok (.aload_n 0, 1) := dk_42 (dk_at dksX2_readsAsks_0 11 rfl rfl)
theorem dX2_readsAsks_12 : decode cX2_readsAsks 12 = .ok (.getfield 71, 3) := dk_180 0 71 (dk_at dksX2_readsAsks_0 12 rfl rfl)
theorem dX2_readsAsks_15 : decode cX2_readsAsks 15 = .ok (.ifCond .ne 10, 3) := dk_154 0 10 (dk_at dksX2_readsAsks_0 15 rfl rfl)
theorem dX2_readsAsks_18 : decode cX2_readsAsks 18 = .ok (.aload_n 0, 1) := dk_42 (dk_at dksX2_readsAsks_0 18 rfl rfl)
theorem dX2_readsAsks_19 : decode cX2_readsAsks 19 = .ok (.getfield 9, 3) := dk_180 0 9 (dk_at dksX2_readsAsks_0 19 rfl rfl)
theorem dX2_readsAsks_22 : decode cX2_readsAsks 22 = .ok (.iconst 1, 1) := dk_4 (dk_at dksX2_readsAsks_0 22 rfl rfl)
theorem dX2_readsAsks_23 : decode cX2_readsAsks 23 = .ok (.iload_n 1, 1) := dk_27 (dk_at dksX2_readsAsks_0 23 rfl rfl)
theorem dX2_readsAsks_24 : decode cX2_readsAsks 24 = .ok (.iastore, 1) := dk_79 (dk_at dksX2_readsAsks_1 0 rfl rfl)
theorem dX2_readsAsks_25 : decode cX2_readsAsks 25 = .ok (.return_, 1) := dk_177 (dk_at dksX2_readsAsks_1 1 rfl rfl)
abbrev cX2_readsCalm : ByteArray := prog_12_method_29_code
def yX2_readsCalm : MethodName := ⟨RX2, "readsCalm", "()V"⟩
def dkwX2_readsCalm_0 : List UInt8 := [42, 182, 0, 143, 42, 182, 0, 120, 177]
abbrev dktX2_readsCalm_0 : List UInt8 := dkwX2_readsCalm_0 ++ []
theorem dksX2_readsCalm_0 : cX2_readsCalm.data.toList.drop 0 = dktX2_readsCalm_0 := by decide +kernel
theorem dX2_readsCalm_0 : decode cX2_readsCalm 0 = .ok (.aload_n 0, 1) := dk_42 (dk_at dksX2_readsCalm_0 0 rfl rfl)
theorem dX2_readsCalm_1 : decode cX2_readsCalm 1 = .ok (.invokevirtual 143, 3) := dk_182 0 143 (dk_at dksX2_readsCalm_0 1 rfl rfl)
theorem dX2_readsCalm_4 : decode cX2_readsCalm 4 = .ok (.aload_n 0, 1) := dk_42 (dk_at dksX2_readsCalm_0 4 rfl rfl)
theorem dX2_readsCalm_5 : decode cX2_readsCalm 5 = .ok (.invokevirtual 120, 3) := dk_182 0 120 (dk_at dksX2_readsCalm_0 5 rfl rfl)
theorem dX2_readsCalm_8 : decode cX2_readsCalm 8 = .ok (.return_, 1) := dk_177 (dk_at dksX2_readsCalm_0 8 rfl rfl)
abbrev cX2_calms : ByteArray := prog_12_method_155_code
def yX2_calms : MethodName := ⟨RX2, "calms", "()V"⟩
def dkwX2_calms_1 : List UInt8 := [167, 255, 235, 177]
abbrev dktX2_calms_1 : List UInt8 := dkwX2_calms_1 ++ []
def dkwX2_calms_0 : List UInt8 := [3, 60, 27, 16, 9, 42, 182, 1, 17, 104, 162, 0, 16, 42, 27, 3, 3, 182, 0, 137, 132, 1, 1]
abbrev dktX2_calms_0 : List UInt8 := dkwX2_calms_0 ++ dktX2_calms_1
theorem dksX2_calms_0 : cX2_calms.data.toList.drop 0 = dktX2_calms_0 := by decide +kernel
theorem dksX2_calms_1 : cX2_calms.data.toList.drop 23 = dktX2_calms_1 := dk_seg dksX2_calms_0 23 rfl rfl
theorem dX2_calms_0 : decode cX2_calms 0 = .ok (.iconst 0, 1) := dk_3 (dk_at dksX2_calms_0 0 rfl rfl)
theorem dX2_calms_1 : decode cX2_calms 1 = .ok (.istore_n 1, 1) := dk_60 (dk_at dksX2_calms_0 1 rfl rfl)
theorem dX2_calms_2 : decode cX2_calms 2 = .ok (.iload_n 1, 1) := dk_27 (dk_at dksX2_calms_0 2 rfl rfl)
theorem dX2_calms_3 : decode cX2_calms 3 = .ok (.bipush 9, 2) := dk_16 9 (dk_at dksX2_calms_0 3 rfl rfl)
theorem dX2_calms_5 : decode cX2_calms 5 = .ok (.aload_n 0, 1) := dk_42 (dk_at dksX2_calms_0 5 rfl rfl)
theorem dX2_calms_6 : decode cX2_calms 6 = .ok (.invokevirtual 273, 3) := dk_182 1 17 (dk_at dksX2_calms_0 6 rfl rfl)
theorem dX2_calms_9 : decode cX2_calms 9 = .ok (.imul, 1) := dk_104 (dk_at dksX2_calms_0 9 rfl rfl)
theorem dX2_calms_10 : decode cX2_calms 10 = .ok (.if_icmp .ge 16, 3) := dk_162 0 16 (dk_at dksX2_calms_0 10 rfl rfl)
theorem dX2_calms_13 : decode cX2_calms 13 = .ok (.aload_n 0, 1) := dk_42 (dk_at dksX2_calms_0 13 rfl rfl)
theorem dX2_calms_14 : decode cX2_calms 14 = .ok (.iload_n 1, 1) := dk_27 (dk_at dksX2_calms_0 14 rfl rfl)
theorem dX2_calms_15 : decode cX2_calms 15 = .ok (.iconst 0, 1) := dk_3 (dk_at dksX2_calms_0 15 rfl rfl)
theorem dX2_calms_16 : decode cX2_calms 16 = .ok (.iconst 0, 1) := dk_3 (dk_at dksX2_calms_0 16 rfl rfl)
theorem dX2_calms_17 : decode cX2_calms 17 = .ok (.invokevirtual 137, 3) := dk_182 0 137 (dk_at dksX2_calms_0 17 rfl rfl)
theorem dX2_calms_20 : decode cX2_calms 20 = .ok (.iinc 1 1, 3) := dk_132 1 1 (dk_at dksX2_calms_0 20 rfl rfl)
theorem dX2_calms_23 : decode cX2_calms 23 = .ok (.goto (-21), 3) := dk_167 255 235 (dk_at dksX2_calms_1 0 rfl rfl)
theorem dX2_calms_26 : decode cX2_calms 26 = .ok (.return_, 1) := dk_177 (dk_at dksX2_calms_1 3 rfl rfl)
abbrev cX2_readsDrop : ByteArray := prog_12_method_30_code
def yX2_readsDrop : MethodName := ⟨RX2, "readsDrop", "()V"⟩
def dkwX2_readsDrop_2 : List UInt8 := [27, 182, 0, 149, 42, 182, 0, 120, 177]
abbrev dktX2_readsDrop_2 : List UInt8 := dkwX2_readsDrop_2 ++ []
def dkwX2_readsDrop_1 : List UInt8 := [154, 0, 16, 42, 27, 182, 0, 146, 153, 0, 8, 42, 6, 182, 0, 110, 42, 180, 0, 71, 154, 0, 8, 42]
abbrev dktX2_readsDrop_1 : List UInt8 := dkwX2_readsDrop_1 ++ dktX2_readsDrop_2
def dkwX2_readsDrop_0 : List UInt8 := [42, 182, 0, 120, 42, 3, 42, 180, 0, 9, 6, 46, 4, 100, 182, 0, 116, 60, 42, 180, 0, 71]
abbrev dktX2_readsDrop_0 : List UInt8 := dkwX2_readsDrop_0 ++ dktX2_readsDrop_1
theorem dksX2_readsDrop_0 : cX2_readsDrop.data.toList.drop 0 = dktX2_readsDrop_0 := by decide +kernel
theorem dksX2_readsDrop_1 : cX2_readsDrop.data.toList.drop 22 = dktX2_readsDrop_1 := dk_seg dksX2_readsDrop_0 22 rfl rfl
theorem dksX2_readsDrop_2 : cX2_readsDrop.data.toList.drop 46 = dktX2_readsDrop_2 := dk_seg dksX2_readsDrop_1 24 rfl rfl
theorem dX2_readsDrop_0 : decode cX2_readsDrop 0 = .ok (.aload_n 0, 1) := dk_42 (dk_at dksX2_readsDrop_0 0 rfl rfl)
theorem dX2_readsDrop_1 : decode cX2_readsDrop 1 = .ok (.invokevirtual 120, 3) := dk_182 0 120 (dk_at dksX2_readsDrop_0 1 rfl rfl)
theorem dX2_readsDrop_4 : decode cX2_readsDrop 4 = .ok (.aload_n 0, 1) := dk_42 (dk_at dksX2_readsDrop_0 4 rfl rfl)
theorem dX2_readsDrop_5 : decode cX2_readsDrop 5 = .ok (.iconst 0, 1) := dk_3 (dk_at dksX2_readsDrop_0 5 rfl rfl)
theorem dX2_readsDrop_6 : decode cX2_readsDrop 6 = .ok (.aload_n 0, 1) := dk_42 (dk_at dksX2_readsDrop_0 6 rfl rfl)
theorem dX2_readsDrop_7 : decode cX2_readsDrop 7 = .ok (.getfield 9, 3) := dk_180 0 9 (dk_at dksX2_readsDrop_0 7 rfl rfl)
theorem dX2_readsDrop_10 : decode cX2_readsDrop 10 = .ok (.iconst 3, 1) := dk_6 (dk_at dksX2_readsDrop_0 10 rfl rfl)
theorem dX2_readsDrop_11 : decode cX2_readsDrop 11 = .ok (.iaload, 1) := dk_46 (dk_at dksX2_readsDrop_0 11 rfl rfl)
theorem dX2_readsDrop_12 : decode cX2_readsDrop 12 = .ok (.iconst 1, 1) := dk_4 (dk_at dksX2_readsDrop_0 12 rfl rfl)
theorem dX2_readsDrop_13 : decode cX2_readsDrop 13 = .ok (.isub, 1) := dk_100 (dk_at dksX2_readsDrop_0 13 rfl rfl)
theorem dX2_readsDrop_14 : decode cX2_readsDrop 14 = .ok (.invokevirtual 116, 3) := dk_182 0 116 (dk_at dksX2_readsDrop_0 14 rfl rfl)
theorem dX2_readsDrop_17 : decode cX2_readsDrop 17 = .ok (.istore_n 1, 1) := dk_60 (dk_at dksX2_readsDrop_0 17 rfl rfl)
theorem dX2_readsDrop_18 : decode cX2_readsDrop 18 = .ok (.aload_n 0, 1) := dk_42 (dk_at dksX2_readsDrop_0 18 rfl rfl)
theorem dX2_readsDrop_19 : decode cX2_readsDrop 19 = .ok (.getfield 71, 3) := dk_180 0 71 (dk_at dksX2_readsDrop_0 19 rfl rfl)
theorem dX2_readsDrop_22 : decode cX2_readsDrop 22 = .ok (.ifCond .ne 16, 3) := dk_154 0 16 (dk_at dksX2_readsDrop_1 0 rfl rfl)
theorem dX2_readsDrop_25 : decode cX2_readsDrop 25 = .ok (.aload_n 0, 1) := dk_42 (dk_at dksX2_readsDrop_1 3 rfl rfl)
theorem dX2_readsDrop_26 : decode cX2_readsDrop 26 = .ok (.iload_n 1, 1) := dk_27 (dk_at dksX2_readsDrop_1 4 rfl rfl)
theorem dX2_readsDrop_27 : decode cX2_readsDrop 27 = .ok (.invokevirtual 146, 3) := dk_182 0 146 (dk_at dksX2_readsDrop_1 5 rfl rfl)
theorem dX2_readsDrop_30 : decode cX2_readsDrop 30 = .ok (.ifCond .eq 8, 3) := dk_153 0 8 (dk_at dksX2_readsDrop_1 8 rfl rfl)
theorem dX2_readsDrop_33 : decode cX2_readsDrop 33 = .ok (.aload_n 0, 1) := dk_42 (dk_at dksX2_readsDrop_1 11 rfl rfl)
theorem dX2_readsDrop_34 : decode cX2_readsDrop 34 = .ok (.iconst 3, 1) := dk_6 (dk_at dksX2_readsDrop_1 12 rfl rfl)
theorem dX2_readsDrop_35 : decode cX2_readsDrop 35 = .ok (.invokevirtual 110, 3) := dk_182 0 110 (dk_at dksX2_readsDrop_1 13 rfl rfl)
theorem dX2_readsDrop_38 : decode cX2_readsDrop 38 = .ok (.aload_n 0, 1) := dk_42 (dk_at dksX2_readsDrop_1 16 rfl rfl)
theorem dX2_readsDrop_39 : decode cX2_readsDrop 39 = .ok (.getfield 71, 3) := dk_180 0 71 (dk_at dksX2_readsDrop_1 17 rfl rfl)
theorem dX2_readsDrop_42 : decode cX2_readsDrop 42 = .ok (.ifCond .ne 8, 3) := dk_154 0 8 (dk_at dksX2_readsDrop_1 20 rfl rfl)
theorem dX2_readsDrop_45 : decode cX2_readsDrop 45 = .ok (.aload_n 0, 1) := dk_42 (dk_at dksX2_readsDrop_1 23 rfl rfl)
theorem dX2_readsDrop_46 : decode cX2_readsDrop 46 = .ok (.iload_n 1, 1) := dk_27 (dk_at dksX2_readsDrop_2 0 rfl rfl)
theorem dX2_readsDrop_47 : decode cX2_readsDrop 47 = .ok (.invokevirtual 149, 3) := dk_182 0 149 (dk_at dksX2_readsDrop_2 1 rfl rfl)
theorem dX2_readsDrop_50 : decode cX2_readsDrop 50 = .ok (.aload_n 0, 1) := dk_42 (dk_at dksX2_readsDrop_2 4 rfl rfl)
theorem dX2_readsDrop_51 : decode cX2_readsDrop 51 = .ok (.invokevirtual 120, 3) := dk_182 0 120 (dk_at dksX2_readsDrop_2 5 rfl rfl)
theorem dX2_readsDrop_54 : decode cX2_readsDrop 54 = .ok (.return_, 1) := dk_177 (dk_at dksX2_readsDrop_2 8 rfl rfl)
abbrev cX2_drops : ByteArray := prog_12_method_163_code
def yX2_drops : MethodName := ⟨RX2, "drops", "(I)V"⟩
def dkwX2_drops_2 : List UInt8 := [167, 255, 212, 42, 180, 0, 9, 6, 92, 46, 4, 100, 79, 42, 27, 182, 1, 175, 177]
abbrev dktX2_drops_2 : List UInt8 := dkwX2_drops_2 ++ []
def dkwX2_drops_1 : List UInt8 := [28, 29, 42, 28, 4, 96, 29, 182, 0, 238, 182, 0, 241, 132, 3, 1, 167, 255, 232, 132, 2, 1]
abbrev dktX2_drops_1 : List UInt8 := dkwX2_drops_1 ++ dktX2_drops_2
def dkwX2_drops_0 : List UInt8 := [27, 61, 28, 4, 96, 42, 180, 0, 9, 6, 46, 162, 0, 38, 3, 62, 29, 17, 0, 197, 162, 0, 23, 42]
abbrev dktX2_drops_0 : List UInt8 := dkwX2_drops_0 ++ dktX2_drops_1
theorem dksX2_drops_0 : cX2_drops.data.toList.drop 0 = dktX2_drops_0 := by decide +kernel
theorem dksX2_drops_1 : cX2_drops.data.toList.drop 24 = dktX2_drops_1 := dk_seg dksX2_drops_0 24 rfl rfl
theorem dksX2_drops_2 : cX2_drops.data.toList.drop 46 = dktX2_drops_2 := dk_seg dksX2_drops_1 22 rfl rfl
theorem dX2_drops_0 : decode cX2_drops 0 = .ok (.iload_n 1, 1) := dk_27 (dk_at dksX2_drops_0 0 rfl rfl)
theorem dX2_drops_1 : decode cX2_drops 1 = .ok (.istore_n 2, 1) := dk_61 (dk_at dksX2_drops_0 1 rfl rfl)
theorem dX2_drops_2 : decode cX2_drops 2 = .ok (.iload_n 2, 1) := dk_28 (dk_at dksX2_drops_0 2 rfl rfl)
theorem dX2_drops_3 : decode cX2_drops 3 = .ok (.iconst 1, 1) := dk_4 (dk_at dksX2_drops_0 3 rfl rfl)
theorem dX2_drops_4 : decode cX2_drops 4 = .ok (.iadd, 1) := dk_96 (dk_at dksX2_drops_0 4 rfl rfl)
theorem dX2_drops_5 : decode cX2_drops 5 = .ok (.aload_n 0, 1) := dk_42 (dk_at dksX2_drops_0 5 rfl rfl)
theorem dX2_drops_6 : decode cX2_drops 6 = .ok (.getfield 9, 3) := dk_180 0 9 (dk_at dksX2_drops_0 6 rfl rfl)
theorem dX2_drops_9 : decode cX2_drops 9 = .ok (.iconst 3, 1) := dk_6 (dk_at dksX2_drops_0 9 rfl rfl)
theorem dX2_drops_10 : decode cX2_drops 10 = .ok (.iaload, 1) := dk_46 (dk_at dksX2_drops_0 10 rfl rfl)
theorem dX2_drops_11 : decode cX2_drops 11 = .ok (.if_icmp .ge 38, 3) := dk_162 0 38 (dk_at dksX2_drops_0 11 rfl rfl)
theorem dX2_drops_14 : decode cX2_drops 14 = .ok (.iconst 0, 1) := dk_3 (dk_at dksX2_drops_0 14 rfl rfl)
theorem dX2_drops_15 : decode cX2_drops 15 = .ok (.istore_n 3, 1) := dk_62 (dk_at dksX2_drops_0 15 rfl rfl)
theorem dX2_drops_16 : decode cX2_drops 16 = .ok (.iload_n 3, 1) := dk_29 (dk_at dksX2_drops_0 16 rfl rfl)
theorem dX2_drops_17 : decode cX2_drops 17 = .ok (.sipush 197, 3) := dk_17 0 197 (dk_at dksX2_drops_0 17 rfl rfl)
theorem dX2_drops_20 : decode cX2_drops 20 = .ok (.if_icmp .ge 23, 3) := dk_162 0 23 (dk_at dksX2_drops_0 20 rfl rfl)
theorem dX2_drops_23 : decode cX2_drops 23 = .ok (.aload_n 0, 1) := dk_42 (dk_at dksX2_drops_0 23 rfl rfl)
theorem dX2_drops_24 : decode cX2_drops 24 = .ok (.iload_n 2, 1) := dk_28 (dk_at dksX2_drops_1 0 rfl rfl)
theorem dX2_drops_25 : decode cX2_drops 25 = .ok (.iload_n 3, 1) := dk_29 (dk_at dksX2_drops_1 1 rfl rfl)
theorem dX2_drops_26 : decode cX2_drops 26 = .ok (.aload_n 0, 1) := dk_42 (dk_at dksX2_drops_1 2 rfl rfl)
theorem dX2_drops_27 : decode cX2_drops 27 = .ok (.iload_n 2, 1) := dk_28 (dk_at dksX2_drops_1 3 rfl rfl)
theorem dX2_drops_28 : decode cX2_drops 28 = .ok (.iconst 1, 1) := dk_4 (dk_at dksX2_drops_1 4 rfl rfl)
theorem dX2_drops_29 : decode cX2_drops 29 = .ok (.iadd, 1) := dk_96 (dk_at dksX2_drops_1 5 rfl rfl)
theorem dX2_drops_30 : decode cX2_drops 30 = .ok (.iload_n 3, 1) := dk_29 (dk_at dksX2_drops_1 6 rfl rfl)
theorem dX2_drops_31 : decode cX2_drops 31 = .ok (.invokevirtual 238, 3) := dk_182 0 238 (dk_at dksX2_drops_1 7 rfl rfl)
theorem dX2_drops_34 : decode cX2_drops 34 = .ok (.invokevirtual 241, 3) := dk_182 0 241 (dk_at dksX2_drops_1 10 rfl rfl)
theorem dX2_drops_37 : decode cX2_drops 37 = .ok (.iinc 3 1, 3) := dk_132 3 1 (dk_at dksX2_drops_1 13 rfl rfl)
theorem dX2_drops_40 : decode cX2_drops 40 = .ok (.goto (-24), 3) := dk_167 255 232 (dk_at dksX2_drops_1 16 rfl rfl)
theorem dX2_drops_43 : decode cX2_drops 43 = .ok (.iinc 2 1, 3) := dk_132 2 1 (dk_at dksX2_drops_1 19 rfl rfl)
theorem dX2_drops_46 : decode cX2_drops 46 = .ok (.goto (-44), 3) := dk_167 255 212 (dk_at dksX2_drops_2 0 rfl rfl)
theorem dX2_drops_49 : decode cX2_drops 49 = .ok (.aload_n 0, 1) := dk_42 (dk_at dksX2_drops_2 3 rfl rfl)
theorem dX2_drops_50 : decode cX2_drops 50 = .ok (.getfield 9, 3) := dk_180 0 9 (dk_at dksX2_drops_2 4 rfl rfl)
theorem dX2_drops_53 : decode cX2_drops 53 = .ok (.iconst 3, 1) := dk_6 (dk_at dksX2_drops_2 7 rfl rfl)
theorem dX2_drops_54 : decode cX2_drops 54 = .ok (.dup2, 1) := dk_92 (dk_at dksX2_drops_2 8 rfl rfl)
theorem dX2_drops_55 : decode cX2_drops 55 = .ok (.iaload, 1) := dk_46 (dk_at dksX2_drops_2 9 rfl rfl)
theorem dX2_drops_56 : decode cX2_drops 56 = .ok (.iconst 1, 1) := dk_4 (dk_at dksX2_drops_2 10 rfl rfl)
theorem dX2_drops_57 : decode cX2_drops 57 = .ok (.isub, 1) := dk_100 (dk_at dksX2_drops_2 11 rfl rfl)
theorem dX2_drops_58 : decode cX2_drops 58 = .ok (.iastore, 1) := dk_79 (dk_at dksX2_drops_2 12 rfl rfl)
theorem dX2_drops_59 : decode cX2_drops 59 = .ok (.aload_n 0, 1) := dk_42 (dk_at dksX2_drops_2 13 rfl rfl)
theorem dX2_drops_60 : decode cX2_drops 60 = .ok (.iload_n 1, 1) := dk_27 (dk_at dksX2_drops_2 14 rfl rfl)
theorem dX2_drops_61 : decode cX2_drops 61 = .ok (.invokevirtual 431, 3) := dk_182 1 175 (dk_at dksX2_drops_2 15 rfl rfl)
theorem dX2_drops_64 : decode cX2_drops 64 = .ok (.return_, 1) := dk_177 (dk_at dksX2_drops_2 18 rfl rfl)
abbrev cX2_dropsFromLog : ByteArray := prog_12_method_161_code
def yX2_dropsFromLog : MethodName := ⟨RX2, "dropsFromLog", "(I)V"⟩
def dkwX2_dropsFromLog_5 : List UInt8 := [167, 255, 141, 42, 180, 0, 9, 7, 28, 79, 177]
abbrev dktX2_dropsFromLog_5 : List UInt8 := dkwX2_dropsFromLog_5 ++ []
def dkwX2_dropsFromLog_4 : List UInt8 := [96, 21, 4, 27, 164, 0, 10, 21, 4, 4, 100, 167, 0, 5, 21, 4, 79, 132, 2, 1, 132, 3, 1]
abbrev dktX2_dropsFromLog_4 : List UInt8 := dkwX2_dropsFromLog_4 ++ dktX2_dropsFromLog_5
def dkwX2_dropsFromLog_3 : List UInt8 := [96, 21, 5, 96, 46, 79, 132, 5, 1, 167, 255, 217, 42, 180, 0, 9, 17, 5, 136, 7, 28, 104, 96, 5]
abbrev dktX2_dropsFromLog_3 : List UInt8 := dkwX2_dropsFromLog_3 ++ dktX2_dropsFromLog_4
def dkwX2_dropsFromLog_2 : List UInt8 := [42, 180, 0, 9, 17, 5, 136, 7, 28, 104, 96, 21, 5, 96, 42, 180, 0, 9, 17, 5, 136, 7, 29, 104]
abbrev dktX2_dropsFromLog_2 : List UInt8 := dkwX2_dropsFromLog_2 ++ dktX2_dropsFromLog_3
def dkwX2_dropsFromLog_1 : List UInt8 := [96, 5, 96, 46, 54, 4, 21, 4, 27, 160, 0, 6, 167, 0, 80, 3, 54, 5, 21, 5, 7, 162, 0, 39]
abbrev dktX2_dropsFromLog_1 : List UInt8 := dkwX2_dropsFromLog_1 ++ dktX2_dropsFromLog_2
def dkwX2_dropsFromLog_0 : List UInt8 := [3, 61, 3, 62, 29, 42, 180, 0, 9, 7, 46, 162, 0, 111, 42, 180, 0, 9, 17, 5, 136, 7, 29, 104]
abbrev dktX2_dropsFromLog_0 : List UInt8 := dkwX2_dropsFromLog_0 ++ dktX2_dropsFromLog_1
theorem dksX2_dropsFromLog_0 : cX2_dropsFromLog.data.toList.drop 0 = dktX2_dropsFromLog_0 := by decide +kernel
theorem dksX2_dropsFromLog_1 : cX2_dropsFromLog.data.toList.drop 24 = dktX2_dropsFromLog_1 := dk_seg dksX2_dropsFromLog_0 24 rfl rfl
theorem dksX2_dropsFromLog_2 : cX2_dropsFromLog.data.toList.drop 48 = dktX2_dropsFromLog_2 := dk_seg dksX2_dropsFromLog_1 24 rfl rfl
theorem dksX2_dropsFromLog_3 : cX2_dropsFromLog.data.toList.drop 72 = dktX2_dropsFromLog_3 := dk_seg dksX2_dropsFromLog_2 24 rfl rfl
theorem dksX2_dropsFromLog_4 : cX2_dropsFromLog.data.toList.drop 96 = dktX2_dropsFromLog_4 := dk_seg dksX2_dropsFromLog_3 24 rfl rfl
theorem dksX2_dropsFromLog_5 : cX2_dropsFromLog.data.toList.drop 119 = dktX2_dropsFromLog_5 := dk_seg dksX2_dropsFromLog_4 23 rfl rfl
theorem dX2_dropsFromLog_0 : decode cX2_dropsFromLog 0 = .ok (.iconst 0, 1) := dk_3 (dk_at dksX2_dropsFromLog_0 0 rfl rfl)
theorem dX2_dropsFromLog_1 : decode cX2_dropsFromLog 1 = .ok (.istore_n 2, 1) := dk_61 (dk_at dksX2_dropsFromLog_0 1 rfl rfl)
theorem dX2_dropsFromLog_2 : decode cX2_dropsFromLog 2 = .ok (.iconst 0, 1) := dk_3 (dk_at dksX2_dropsFromLog_0 2 rfl rfl)
theorem dX2_dropsFromLog_3 : decode cX2_dropsFromLog 3 = .ok (.istore_n 3, 1) := dk_62 (dk_at dksX2_dropsFromLog_0 3 rfl rfl)
theorem dX2_dropsFromLog_4 : decode cX2_dropsFromLog 4 = .ok (.iload_n 3, 1) := dk_29 (dk_at dksX2_dropsFromLog_0 4 rfl rfl)
theorem dX2_dropsFromLog_5 : decode cX2_dropsFromLog 5 = .ok (.aload_n 0, 1) := dk_42 (dk_at dksX2_dropsFromLog_0 5 rfl rfl)
theorem dX2_dropsFromLog_6 : decode cX2_dropsFromLog 6 = .ok (.getfield 9, 3) := dk_180 0 9 (dk_at dksX2_dropsFromLog_0 6 rfl rfl)
theorem dX2_dropsFromLog_9 : decode cX2_dropsFromLog 9 = .ok (.iconst 4, 1) := dk_7 (dk_at dksX2_dropsFromLog_0 9 rfl rfl)
theorem dX2_dropsFromLog_10 : decode cX2_dropsFromLog 10 = .ok (.iaload, 1) := dk_46 (dk_at dksX2_dropsFromLog_0 10 rfl rfl)
theorem dX2_dropsFromLog_11 : decode cX2_dropsFromLog 11 = .ok (.if_icmp .ge 111, 3) := dk_162 0 111 (dk_at dksX2_dropsFromLog_0 11 rfl rfl)
theorem dX2_dropsFromLog_14 : decode cX2_dropsFromLog 14 = .ok (.aload_n 0, 1) := dk_42 (dk_at dksX2_dropsFromLog_0 14 rfl rfl)
theorem dX2_dropsFromLog_15 : decode cX2_dropsFromLog 15 = .ok (.getfield 9, 3) := dk_180 0 9 (dk_at dksX2_dropsFromLog_0 15 rfl rfl)
theorem dX2_dropsFromLog_18 : decode cX2_dropsFromLog 18 = .ok (.sipush 1416, 3) := dk_17 5 136 (dk_at dksX2_dropsFromLog_0 18 rfl rfl)
theorem dX2_dropsFromLog_21 : decode cX2_dropsFromLog 21 = .ok (.iconst 4, 1) := dk_7 (dk_at dksX2_dropsFromLog_0 21 rfl rfl)
theorem dX2_dropsFromLog_22 : decode cX2_dropsFromLog 22 = .ok (.iload_n 3, 1) := dk_29 (dk_at dksX2_dropsFromLog_0 22 rfl rfl)
theorem dX2_dropsFromLog_23 : decode cX2_dropsFromLog 23 = .ok (.imul, 1) := dk_104 (dk_at dksX2_dropsFromLog_0 23 rfl rfl)
theorem dX2_dropsFromLog_24 : decode cX2_dropsFromLog 24 = .ok (.iadd, 1) := dk_96 (dk_at dksX2_dropsFromLog_1 0 rfl rfl)
theorem dX2_dropsFromLog_25 : decode cX2_dropsFromLog 25 = .ok (.iconst 2, 1) := dk_5 (dk_at dksX2_dropsFromLog_1 1 rfl rfl)
theorem dX2_dropsFromLog_26 : decode cX2_dropsFromLog 26 = .ok (.iadd, 1) := dk_96 (dk_at dksX2_dropsFromLog_1 2 rfl rfl)
theorem dX2_dropsFromLog_27 : decode cX2_dropsFromLog 27 = .ok (.iaload, 1) := dk_46 (dk_at dksX2_dropsFromLog_1 3 rfl rfl)
theorem dX2_dropsFromLog_28 : decode cX2_dropsFromLog 28 = .ok (.istore 4, 2) := dk_54 4 (dk_at dksX2_dropsFromLog_1 4 rfl rfl)
theorem dX2_dropsFromLog_30 : decode cX2_dropsFromLog 30 = .ok (.iload 4, 2) := dk_21 4 (dk_at dksX2_dropsFromLog_1 6 rfl rfl)
theorem dX2_dropsFromLog_32 : decode cX2_dropsFromLog 32 = .ok (.iload_n 1, 1) := dk_27 (dk_at dksX2_dropsFromLog_1 8 rfl rfl)
theorem dX2_dropsFromLog_33 : decode cX2_dropsFromLog 33 = .ok (.if_icmp .ne 6, 3) := dk_160 0 6 (dk_at dksX2_dropsFromLog_1 9 rfl rfl)
theorem dX2_dropsFromLog_36 : decode cX2_dropsFromLog 36 = .ok (.goto 80, 3) := dk_167 0 80 (dk_at dksX2_dropsFromLog_1 12 rfl rfl)
theorem dX2_dropsFromLog_39 : decode cX2_dropsFromLog 39 = .ok (.iconst 0, 1) := dk_3 (dk_at dksX2_dropsFromLog_1 15 rfl rfl)
theorem dX2_dropsFromLog_40 : decode cX2_dropsFromLog 40 = .ok (.istore 5, 2) := dk_54 5 (dk_at dksX2_dropsFromLog_1 16 rfl rfl)
theorem dX2_dropsFromLog_42 : decode cX2_dropsFromLog 42 = .ok (.iload 5, 2) := dk_21 5 (dk_at dksX2_dropsFromLog_1 18 rfl rfl)
theorem dX2_dropsFromLog_44 : decode cX2_dropsFromLog 44 = .ok (.iconst 4, 1) := dk_7 (dk_at dksX2_dropsFromLog_1 20 rfl rfl)
theorem dX2_dropsFromLog_45 : decode cX2_dropsFromLog 45 = .ok (.if_icmp .ge 39, 3) := dk_162 0 39 (dk_at dksX2_dropsFromLog_1 21 rfl rfl)
theorem dX2_dropsFromLog_48 : decode cX2_dropsFromLog 48 = .ok (.aload_n 0, 1) := dk_42 (dk_at dksX2_dropsFromLog_2 0 rfl rfl)
theorem dX2_dropsFromLog_49 : decode cX2_dropsFromLog 49 = .ok (.getfield 9, 3) := dk_180 0 9 (dk_at dksX2_dropsFromLog_2 1 rfl rfl)
theorem dX2_dropsFromLog_52 : decode cX2_dropsFromLog 52 = .ok (.sipush 1416, 3) := dk_17 5 136 (dk_at dksX2_dropsFromLog_2 4 rfl rfl)
theorem dX2_dropsFromLog_55 : decode cX2_dropsFromLog 55 = .ok (.iconst 4, 1) := dk_7 (dk_at dksX2_dropsFromLog_2 7 rfl rfl)
theorem dX2_dropsFromLog_56 : decode cX2_dropsFromLog 56 = .ok (.iload_n 2, 1) := dk_28 (dk_at dksX2_dropsFromLog_2 8 rfl rfl)
theorem dX2_dropsFromLog_57 : decode cX2_dropsFromLog 57 = .ok (.imul, 1) := dk_104 (dk_at dksX2_dropsFromLog_2 9 rfl rfl)
theorem dX2_dropsFromLog_58 : decode cX2_dropsFromLog 58 = .ok (.iadd, 1) := dk_96 (dk_at dksX2_dropsFromLog_2 10 rfl rfl)
theorem dX2_dropsFromLog_59 : decode cX2_dropsFromLog 59 = .ok (.iload 5, 2) := dk_21 5 (dk_at dksX2_dropsFromLog_2 11 rfl rfl)
theorem dX2_dropsFromLog_61 : decode cX2_dropsFromLog 61 = .ok (.iadd, 1) := dk_96 (dk_at dksX2_dropsFromLog_2 13 rfl rfl)
theorem dX2_dropsFromLog_62 : decode cX2_dropsFromLog 62 = .ok (.aload_n 0, 1) := dk_42 (dk_at dksX2_dropsFromLog_2 14 rfl rfl)
theorem dX2_dropsFromLog_63 : decode cX2_dropsFromLog 63 = .ok (.getfield 9, 3) := dk_180 0 9 (dk_at dksX2_dropsFromLog_2 15 rfl rfl)
theorem dX2_dropsFromLog_66 : decode cX2_dropsFromLog 66 = .ok (.sipush 1416, 3) := dk_17 5 136 (dk_at dksX2_dropsFromLog_2 18 rfl rfl)
theorem dX2_dropsFromLog_69 : decode cX2_dropsFromLog 69 = .ok (.iconst 4, 1) := dk_7 (dk_at dksX2_dropsFromLog_2 21 rfl rfl)
theorem dX2_dropsFromLog_70 : decode cX2_dropsFromLog 70 = .ok (.iload_n 3, 1) := dk_29 (dk_at dksX2_dropsFromLog_2 22 rfl rfl)
theorem dX2_dropsFromLog_71 : decode cX2_dropsFromLog 71 = .ok (.imul, 1) := dk_104 (dk_at dksX2_dropsFromLog_2 23 rfl rfl)
theorem dX2_dropsFromLog_72 : decode cX2_dropsFromLog 72 = .ok (.iadd, 1) := dk_96 (dk_at dksX2_dropsFromLog_3 0 rfl rfl)
theorem dX2_dropsFromLog_73 : decode cX2_dropsFromLog 73 = .ok (.iload 5, 2) := dk_21 5 (dk_at dksX2_dropsFromLog_3 1 rfl rfl)
theorem dX2_dropsFromLog_75 : decode cX2_dropsFromLog 75 = .ok (.iadd, 1) := dk_96 (dk_at dksX2_dropsFromLog_3 3 rfl rfl)
theorem dX2_dropsFromLog_76 : decode cX2_dropsFromLog 76 = .ok (.iaload, 1) := dk_46 (dk_at dksX2_dropsFromLog_3 4 rfl rfl)
theorem dX2_dropsFromLog_77 : decode cX2_dropsFromLog 77 = .ok (.iastore, 1) := dk_79 (dk_at dksX2_dropsFromLog_3 5 rfl rfl)
theorem dX2_dropsFromLog_78 : decode cX2_dropsFromLog 78 = .ok (.iinc 5 1, 3) := dk_132 5 1 (dk_at dksX2_dropsFromLog_3 6 rfl rfl)
theorem dX2_dropsFromLog_81 : decode cX2_dropsFromLog 81 = .ok (.goto (-39), 3) := dk_167 255 217 (dk_at dksX2_dropsFromLog_3 9 rfl rfl)
theorem dX2_dropsFromLog_84 : decode cX2_dropsFromLog 84 = .ok (.aload_n 0, 1) := dk_42 (dk_at dksX2_dropsFromLog_3 12 rfl rfl)
theorem dX2_dropsFromLog_85 : decode cX2_dropsFromLog 85 = .ok (.getfield 9, 3) := dk_180 0 9 (dk_at dksX2_dropsFromLog_3 13 rfl rfl)
theorem dX2_dropsFromLog_88 : decode cX2_dropsFromLog 88 = .ok (.sipush 1416, 3) := dk_17 5 136 (dk_at dksX2_dropsFromLog_3 16 rfl rfl)
theorem dX2_dropsFromLog_91 : decode cX2_dropsFromLog 91 = .ok (.iconst 4, 1) := dk_7 (dk_at dksX2_dropsFromLog_3 19 rfl rfl)
theorem dX2_dropsFromLog_92 : decode cX2_dropsFromLog 92 = .ok (.iload_n 2, 1) := dk_28 (dk_at dksX2_dropsFromLog_3 20 rfl rfl)
theorem dX2_dropsFromLog_93 : decode cX2_dropsFromLog 93 = .ok (.imul, 1) := dk_104 (dk_at dksX2_dropsFromLog_3 21 rfl rfl)
theorem dX2_dropsFromLog_94 : decode cX2_dropsFromLog 94 = .ok (.iadd, 1) := dk_96 (dk_at dksX2_dropsFromLog_3 22 rfl rfl)
theorem dX2_dropsFromLog_95 : decode cX2_dropsFromLog 95 = .ok (.iconst 2, 1) := dk_5 (dk_at dksX2_dropsFromLog_3 23 rfl rfl)
theorem dX2_dropsFromLog_96 : decode cX2_dropsFromLog 96 = .ok (.iadd, 1) := dk_96 (dk_at dksX2_dropsFromLog_4 0 rfl rfl)
theorem dX2_dropsFromLog_97 : decode cX2_dropsFromLog 97 = .ok (.iload 4, 2) := dk_21 4 (dk_at dksX2_dropsFromLog_4 1 rfl rfl)
theorem dX2_dropsFromLog_99 : decode cX2_dropsFromLog 99 = .ok (.iload_n 1, 1) := dk_27 (dk_at dksX2_dropsFromLog_4 3 rfl rfl)
theorem dX2_dropsFromLog_100 : decode cX2_dropsFromLog 100 = .ok (.if_icmp .le 10, 3) := dk_164 0 10 (dk_at dksX2_dropsFromLog_4 4 rfl rfl)
theorem dX2_dropsFromLog_103 : decode cX2_dropsFromLog 103 = .ok (.iload 4, 2) := dk_21 4 (dk_at dksX2_dropsFromLog_4 7 rfl rfl)
theorem dX2_dropsFromLog_105 : decode cX2_dropsFromLog 105 = .ok (.iconst 1, 1) := dk_4 (dk_at dksX2_dropsFromLog_4 9 rfl rfl)
theorem dX2_dropsFromLog_106 : decode cX2_dropsFromLog 106 = .ok (.isub, 1) := dk_100 (dk_at dksX2_dropsFromLog_4 10 rfl rfl)
theorem dX2_dropsFromLog_107 : decode cX2_dropsFromLog 107 = .ok (.goto 5, 3) := dk_167 0 5 (dk_at dksX2_dropsFromLog_4 11 rfl rfl)
theorem dX2_dropsFromLog_110 : decode cX2_dropsFromLog 110 = .ok (.iload 4, 2) := dk_21 4 (dk_at dksX2_dropsFromLog_4 14 rfl rfl)
theorem dX2_dropsFromLog_112 : decode cX2_dropsFromLog 112 = .ok (.iastore, 1) := dk_79 (dk_at dksX2_dropsFromLog_4 16 rfl rfl)
theorem dX2_dropsFromLog_113 : decode cX2_dropsFromLog 113 = .ok (.iinc 2 1, 3) := dk_132 2 1 (dk_at dksX2_dropsFromLog_4 17 rfl rfl)
theorem dX2_dropsFromLog_116 : decode cX2_dropsFromLog 116 = .ok (.iinc 3 1, 3) := dk_132 3 1 (dk_at dksX2_dropsFromLog_4 20 rfl rfl)
theorem dX2_dropsFromLog_119 : decode cX2_dropsFromLog 119 = .ok (.goto (-115), 3) := dk_167 255 141 (dk_at dksX2_dropsFromLog_5 0 rfl rfl)
theorem dX2_dropsFromLog_122 : decode cX2_dropsFromLog 122 = .ok (.aload_n 0, 1) := dk_42 (dk_at dksX2_dropsFromLog_5 3 rfl rfl)
theorem dX2_dropsFromLog_123 : decode cX2_dropsFromLog 123 = .ok (.getfield 9, 3) := dk_180 0 9 (dk_at dksX2_dropsFromLog_5 4 rfl rfl)
theorem dX2_dropsFromLog_126 : decode cX2_dropsFromLog 126 = .ok (.iconst 4, 1) := dk_7 (dk_at dksX2_dropsFromLog_5 7 rfl rfl)
theorem dX2_dropsFromLog_127 : decode cX2_dropsFromLog 127 = .ok (.iload_n 2, 1) := dk_28 (dk_at dksX2_dropsFromLog_5 8 rfl rfl)
theorem dX2_dropsFromLog_128 : decode cX2_dropsFromLog 128 = .ok (.iastore, 1) := dk_79 (dk_at dksX2_dropsFromLog_5 9 rfl rfl)
theorem dX2_dropsFromLog_129 : decode cX2_dropsFromLog 129 = .ok (.return_, 1) := dk_177 (dk_at dksX2_dropsFromLog_5 10 rfl rfl)
abbrev cX2_back : ByteArray := prog_12_method_10_code
def yX2_back : MethodName := ⟨RX2, "back", "(I)I"⟩
def dkwX2_back_0 : List UInt8 := [42, 180, 0, 13, 3, 42, 180, 0, 9, 3, 184, 0, 60, 27, 172]
abbrev dktX2_back_0 : List UInt8 := dkwX2_back_0 ++ []
theorem dksX2_back_0 : cX2_back.data.toList.drop 0 = dktX2_back_0 := by decide +kernel
theorem dX2_back_0 : decode cX2_back 0 = .ok (.aload_n 0, 1) := dk_42 (dk_at dksX2_back_0 0 rfl rfl)
theorem dX2_back_1 : decode cX2_back 1 = .ok (.getfield 13, 3) := dk_180 0 13 (dk_at dksX2_back_0 1 rfl rfl)
theorem dX2_back_4 : decode cX2_back 4 = .ok (.iconst 0, 1) := dk_3 (dk_at dksX2_back_0 4 rfl rfl)
theorem dX2_back_5 : decode cX2_back 5 = .ok (.aload_n 0, 1) := dk_42 (dk_at dksX2_back_0 5 rfl rfl)
theorem dX2_back_6 : decode cX2_back 6 = .ok (.getfield 9, 3) := dk_180 0 9 (dk_at dksX2_back_0 6 rfl rfl)
theorem dX2_back_9 : decode cX2_back 9 = .ok (.iconst 0, 1) := dk_3 (dk_at dksX2_back_0 9 rfl rfl)
theorem dX2_back_10 : decode cX2_back 10 = .ok (.invokestatic 60, 3) := dk_184 0 60 (dk_at dksX2_back_0 10 rfl rfl)
theorem dX2_back_13 : decode cX2_back 13 = .ok (.iload_n 1, 1) := dk_27 (dk_at dksX2_back_0 13 rfl rfl)
theorem dX2_back_14 : decode cX2_back 14 = .ok (.ireturn, 1) := dk_172 (dk_at dksX2_back_0 14 rfl rfl)
abbrev cX2_count : ByteArray := prog_12_method_66_code
def yX2_count : MethodName := ⟨RX2, "count", "(I)I"⟩
def dkwX2_count_5 : List UInt8 := [180, 0, 9, 16, 8, 46, 172, 42, 3, 182, 1, 41, 172, 42, 5, 182, 1, 41, 172]
abbrev dktX2_count_5 : List UInt8 := dkwX2_count_5 ++ []
def dkwX2_count_4 : List UInt8 := [180, 0, 9, 8, 46, 172, 42, 180, 0, 9, 16, 6, 46, 172, 42, 180, 0, 9, 16, 7, 46, 172, 42]
abbrev dktX2_count_4 : List UInt8 := dkwX2_count_4 ++ dktX2_count_5
def dkwX2_count_3 : List UInt8 := [180, 0, 9, 6, 46, 172, 42, 180, 0, 9, 6, 46, 42, 182, 1, 31, 100, 172, 42, 182, 1, 31, 172, 42]
abbrev dktX2_count_3 : List UInt8 := dkwX2_count_3 ++ dktX2_count_4
def dkwX2_count_2 : List UInt8 := [42, 180, 0, 9, 3, 46, 172, 42, 180, 0, 9, 4, 46, 172, 42, 180, 0, 9, 5, 46, 172, 42]
abbrev dktX2_count_2 : List UInt8 := dkwX2_count_2 ++ dktX2_count_3
def dkwX2_count_1 : List UInt8 := [170, 0, 0, 0, 0, 0, 141, 0, 0, 0, 0, 0, 0, 0, 10, 0, 0, 0, 59, 0, 0, 0, 66, 0, 0, 0, 73, 0, 0, 0, 80, 0, 0, 0, 87, 0, 0, 0, 99, 0, 0, 0, 104, 0, 0, 0, 111, 0, 0, 0, 119, 0, 0, 0, 127, 0, 0, 0, 135]
abbrev dktX2_count_1 : List UInt8 := dkwX2_count_1 ++ dktX2_count_2
def dkwX2_count_0 : List UInt8 := [42, 42, 180, 0, 56, 27, 3, 16, 11, 184, 0, 77, 182, 1, 37, 154, 0, 5, 3, 172, 27]
abbrev dktX2_count_0 : List UInt8 := dkwX2_count_0 ++ dktX2_count_1
theorem dksX2_count_0 : cX2_count.data.toList.drop 0 = dktX2_count_0 := by decide +kernel
theorem dksX2_count_1 : cX2_count.data.toList.drop 21 = dktX2_count_1 := dk_seg dksX2_count_0 21 rfl rfl
theorem dksX2_count_2 : cX2_count.data.toList.drop 80 = dktX2_count_2 := dk_seg dksX2_count_1 59 rfl rfl
theorem dksX2_count_3 : cX2_count.data.toList.drop 102 = dktX2_count_3 := dk_seg dksX2_count_2 22 rfl rfl
theorem dksX2_count_4 : cX2_count.data.toList.drop 126 = dktX2_count_4 := dk_seg dksX2_count_3 24 rfl rfl
theorem dksX2_count_5 : cX2_count.data.toList.drop 149 = dktX2_count_5 := dk_seg dksX2_count_4 23 rfl rfl
theorem dX2_count_0 : decode cX2_count 0 = .ok (.aload_n 0, 1) := dk_42 (dk_at dksX2_count_0 0 rfl rfl)
theorem dX2_count_1 : decode cX2_count 1 = .ok (.aload_n 0, 1) := dk_42 (dk_at dksX2_count_0 1 rfl rfl)
theorem dX2_count_2 : decode cX2_count 2 = .ok (.getfield 56, 3) := dk_180 0 56 (dk_at dksX2_count_0 2 rfl rfl)
theorem dX2_count_5 : decode cX2_count 5 = .ok (.iload_n 1, 1) := dk_27 (dk_at dksX2_count_0 5 rfl rfl)
theorem dX2_count_6 : decode cX2_count 6 = .ok (.iconst 0, 1) := dk_3 (dk_at dksX2_count_0 6 rfl rfl)
theorem dX2_count_7 : decode cX2_count 7 = .ok (.bipush 11, 2) := dk_16 11 (dk_at dksX2_count_0 7 rfl rfl)
theorem dX2_count_9 : decode cX2_count 9 = .ok (.invokestatic 77, 3) := dk_184 0 77 (dk_at dksX2_count_0 9 rfl rfl)
theorem dX2_count_12 : decode cX2_count 12 = .ok (.invokevirtual 293, 3) := dk_182 1 37 (dk_at dksX2_count_0 12 rfl rfl)
theorem dX2_count_15 : decode cX2_count 15 = .ok (.ifCond .ne 5, 3) := dk_154 0 5 (dk_at dksX2_count_0 15 rfl rfl)
theorem dX2_count_18 : decode cX2_count 18 = .ok (.iconst 0, 1) := dk_3 (dk_at dksX2_count_0 18 rfl rfl)
theorem dX2_count_19 : decode cX2_count 19 = .ok (.ireturn, 1) := dk_172 (dk_at dksX2_count_0 19 rfl rfl)
theorem dX2_count_20 : decode cX2_count 20 = .ok (.iload_n 1, 1) := dk_27 (dk_at dksX2_count_0 20 rfl rfl)
theorem dX2_count_21 : decode cX2_count 21 = .ok (.tableswitch 141 0 10 #[59, 66, 73, 80, 87, 99, 104, 111, 119, 127, 135], 59) := by decide +kernel
theorem dX2_count_80 : decode cX2_count 80 = .ok (.aload_n 0, 1) := dk_42 (dk_at dksX2_count_2 0 rfl rfl)
theorem dX2_count_81 : decode cX2_count 81 = .ok (.getfield 9, 3) := dk_180 0 9 (dk_at dksX2_count_2 1 rfl rfl)
theorem dX2_count_84 : decode cX2_count 84 = .ok (.iconst 0, 1) := dk_3 (dk_at dksX2_count_2 4 rfl rfl)
theorem dX2_count_85 : decode cX2_count 85 = .ok (.iaload, 1) := dk_46 (dk_at dksX2_count_2 5 rfl rfl)
theorem dX2_count_86 : decode cX2_count 86 = .ok (.ireturn, 1) := dk_172 (dk_at dksX2_count_2 6 rfl rfl)
theorem dX2_count_87 : decode cX2_count 87 = .ok (.aload_n 0, 1) := dk_42 (dk_at dksX2_count_2 7 rfl rfl)
theorem dX2_count_88 : decode cX2_count 88 = .ok (.getfield 9, 3) := dk_180 0 9 (dk_at dksX2_count_2 8 rfl rfl)
theorem dX2_count_91 : decode cX2_count 91 = .ok (.iconst 1, 1) := dk_4 (dk_at dksX2_count_2 11 rfl rfl)
theorem dX2_count_92 : decode cX2_count 92 = .ok (.iaload, 1) := dk_46 (dk_at dksX2_count_2 12 rfl rfl)
theorem dX2_count_93 : decode cX2_count 93 = .ok (.ireturn, 1) := dk_172 (dk_at dksX2_count_2 13 rfl rfl)
theorem dX2_count_94 : decode cX2_count 94 = .ok (.aload_n 0, 1) := dk_42 (dk_at dksX2_count_2 14 rfl rfl)
theorem dX2_count_95 : decode cX2_count 95 = .ok (.getfield 9, 3) := dk_180 0 9 (dk_at dksX2_count_2 15 rfl rfl)
theorem dX2_count_98 : decode cX2_count 98 = .ok (.iconst 2, 1) := dk_5 (dk_at dksX2_count_2 18 rfl rfl)
theorem dX2_count_99 : decode cX2_count 99 = .ok (.iaload, 1) := dk_46 (dk_at dksX2_count_2 19 rfl rfl)
theorem dX2_count_100 : decode cX2_count 100 = .ok (.ireturn, 1) := dk_172 (dk_at dksX2_count_2 20 rfl rfl)
theorem dX2_count_101 : decode cX2_count 101 = .ok (.aload_n 0, 1) := dk_42 (dk_at dksX2_count_2 21 rfl rfl)
theorem dX2_count_102 : decode cX2_count 102 = .ok (.getfield 9, 3) := dk_180 0 9 (dk_at dksX2_count_3 0 rfl rfl)
theorem dX2_count_105 : decode cX2_count 105 = .ok (.iconst 3, 1) := dk_6 (dk_at dksX2_count_3 3 rfl rfl)
theorem dX2_count_106 : decode cX2_count 106 = .ok (.iaload, 1) := dk_46 (dk_at dksX2_count_3 4 rfl rfl)
theorem dX2_count_107 : decode cX2_count 107 = .ok (.ireturn, 1) := dk_172 (dk_at dksX2_count_3 5 rfl rfl)
theorem dX2_count_108 : decode cX2_count 108 = .ok (.aload_n 0, 1) := dk_42 (dk_at dksX2_count_3 6 rfl rfl)
theorem dX2_count_109 : decode cX2_count 109 = .ok (.getfield 9, 3) := dk_180 0 9 (dk_at dksX2_count_3 7 rfl rfl)
theorem dX2_count_112 : decode cX2_count 112 = .ok (.iconst 3, 1) := dk_6 (dk_at dksX2_count_3 10 rfl rfl)
theorem dX2_count_113 : decode cX2_count 113 = .ok (.iaload, 1) := dk_46 (dk_at dksX2_count_3 11 rfl rfl)
theorem dX2_count_114 : decode cX2_count 114 = .ok (.aload_n 0, 1) := dk_42 (dk_at dksX2_count_3 12 rfl rfl)
theorem dX2_count_115 : decode cX2_count 115 = .ok (.invokevirtual 287, 3) := dk_182 1 31 (dk_at dksX2_count_3 13 rfl rfl)
theorem dX2_count_118 : decode cX2_count 118 = .ok (.isub, 1) := dk_100 (dk_at dksX2_count_3 16 rfl rfl)
theorem dX2_count_119 : decode cX2_count 119 = .ok (.ireturn, 1) := dk_172 (dk_at dksX2_count_3 17 rfl rfl)
theorem dX2_count_120 : decode cX2_count 120 = .ok (.aload_n 0, 1) := dk_42 (dk_at dksX2_count_3 18 rfl rfl)
theorem dX2_count_121 : decode cX2_count 121 = .ok (.invokevirtual 287, 3) := dk_182 1 31 (dk_at dksX2_count_3 19 rfl rfl)
theorem dX2_count_124 : decode cX2_count 124 = .ok (.ireturn, 1) := dk_172 (dk_at dksX2_count_3 22 rfl rfl)
theorem dX2_count_125 : decode cX2_count 125 = .ok (.aload_n 0, 1) := dk_42 (dk_at dksX2_count_3 23 rfl rfl)
theorem dX2_count_126 : decode cX2_count 126 = .ok (.getfield 9, 3) := dk_180 0 9 (dk_at dksX2_count_4 0 rfl rfl)
theorem dX2_count_129 : decode cX2_count 129 = .ok (.iconst 5, 1) := dk_8 (dk_at dksX2_count_4 3 rfl rfl)
theorem dX2_count_130 : decode cX2_count 130 = .ok (.iaload, 1) := dk_46 (dk_at dksX2_count_4 4 rfl rfl)
theorem dX2_count_131 : decode cX2_count 131 = .ok (.ireturn, 1) := dk_172 (dk_at dksX2_count_4 5 rfl rfl)
theorem dX2_count_132 : decode cX2_count 132 = .ok (.aload_n 0, 1) := dk_42 (dk_at dksX2_count_4 6 rfl rfl)
theorem dX2_count_133 : decode cX2_count 133 = .ok (.getfield 9, 3) := dk_180 0 9 (dk_at dksX2_count_4 7 rfl rfl)
theorem dX2_count_136 : decode cX2_count 136 = .ok (.bipush 6, 2) := dk_16 6 (dk_at dksX2_count_4 10 rfl rfl)
theorem dX2_count_138 : decode cX2_count 138 = .ok (.iaload, 1) := dk_46 (dk_at dksX2_count_4 12 rfl rfl)
theorem dX2_count_139 : decode cX2_count 139 = .ok (.ireturn, 1) := dk_172 (dk_at dksX2_count_4 13 rfl rfl)
theorem dX2_count_140 : decode cX2_count 140 = .ok (.aload_n 0, 1) := dk_42 (dk_at dksX2_count_4 14 rfl rfl)
theorem dX2_count_141 : decode cX2_count 141 = .ok (.getfield 9, 3) := dk_180 0 9 (dk_at dksX2_count_4 15 rfl rfl)
theorem dX2_count_144 : decode cX2_count 144 = .ok (.bipush 7, 2) := dk_16 7 (dk_at dksX2_count_4 18 rfl rfl)
theorem dX2_count_146 : decode cX2_count 146 = .ok (.iaload, 1) := dk_46 (dk_at dksX2_count_4 20 rfl rfl)
theorem dX2_count_147 : decode cX2_count 147 = .ok (.ireturn, 1) := dk_172 (dk_at dksX2_count_4 21 rfl rfl)
theorem dX2_count_148 : decode cX2_count 148 = .ok (.aload_n 0, 1) := dk_42 (dk_at dksX2_count_4 22 rfl rfl)
theorem dX2_count_149 : decode cX2_count 149 = .ok (.getfield 9, 3) := dk_180 0 9 (dk_at dksX2_count_5 0 rfl rfl)
theorem dX2_count_152 : decode cX2_count 152 = .ok (.bipush 8, 2) := dk_16 8 (dk_at dksX2_count_5 3 rfl rfl)
theorem dX2_count_154 : decode cX2_count 154 = .ok (.iaload, 1) := dk_46 (dk_at dksX2_count_5 5 rfl rfl)
theorem dX2_count_155 : decode cX2_count 155 = .ok (.ireturn, 1) := dk_172 (dk_at dksX2_count_5 6 rfl rfl)
theorem dX2_count_156 : decode cX2_count 156 = .ok (.aload_n 0, 1) := dk_42 (dk_at dksX2_count_5 7 rfl rfl)
theorem dX2_count_157 : decode cX2_count 157 = .ok (.iconst 0, 1) := dk_3 (dk_at dksX2_count_5 8 rfl rfl)
theorem dX2_count_158 : decode cX2_count 158 = .ok (.invokevirtual 297, 3) := dk_182 1 41 (dk_at dksX2_count_5 9 rfl rfl)
theorem dX2_count_161 : decode cX2_count 161 = .ok (.ireturn, 1) := dk_172 (dk_at dksX2_count_5 12 rfl rfl)
theorem dX2_count_162 : decode cX2_count 162 = .ok (.aload_n 0, 1) := dk_42 (dk_at dksX2_count_5 13 rfl rfl)
theorem dX2_count_163 : decode cX2_count 163 = .ok (.iconst 2, 1) := dk_5 (dk_at dksX2_count_5 14 rfl rfl)
theorem dX2_count_164 : decode cX2_count 164 = .ok (.invokevirtual 297, 3) := dk_182 1 41 (dk_at dksX2_count_5 15 rfl rfl)
theorem dX2_count_167 : decode cX2_count 167 = .ok (.ireturn, 1) := dk_172 (dk_at dksX2_count_5 18 rfl rfl)
abbrev cX2_mayTwo : ByteArray := prog_12_method_6_code
def yX2_mayTwo : MethodName := ⟨RX2, "mayTwo", "(ZZ)Z"⟩
def dkwX2_mayTwo_0 : List UInt8 := [42, 27, 28, 4, 182, 0, 52, 172]
abbrev dktX2_mayTwo_0 : List UInt8 := dkwX2_mayTwo_0 ++ []
theorem dksX2_mayTwo_0 : cX2_mayTwo.data.toList.drop 0 = dktX2_mayTwo_0 := by decide +kernel
theorem dX2_mayTwo_0 : decode cX2_mayTwo 0 = .ok (.aload_n 0, 1) := dk_42 (dk_at dksX2_mayTwo_0 0 rfl rfl)
theorem dX2_mayTwo_1 : decode cX2_mayTwo 1 = .ok (.iload_n 1, 1) := dk_27 (dk_at dksX2_mayTwo_0 1 rfl rfl)
theorem dX2_mayTwo_2 : decode cX2_mayTwo 2 = .ok (.iload_n 2, 1) := dk_28 (dk_at dksX2_mayTwo_0 2 rfl rfl)
theorem dX2_mayTwo_3 : decode cX2_mayTwo 3 = .ok (.iconst 1, 1) := dk_4 (dk_at dksX2_mayTwo_0 3 rfl rfl)
theorem dX2_mayTwo_4 : decode cX2_mayTwo 4 = .ok (.invokevirtual 52, 3) := dk_182 0 52 (dk_at dksX2_mayTwo_0 4 rfl rfl)
theorem dX2_mayTwo_7 : decode cX2_mayTwo 7 = .ok (.ireturn, 1) := dk_172 (dk_at dksX2_mayTwo_0 7 rfl rfl)
abbrev cX2_wiresWith : ByteArray := prog_12_method_65_code
def yX2_wiresWith : MethodName := ⟨RX2, "wiresWith", "(I)I"⟩
def dkwX2_wiresWith_1 : List UInt8 := [158, 0, 7, 4, 167, 0, 4, 3, 184, 1, 4, 96, 61, 132, 3, 1, 167, 255, 222, 28, 172]
abbrev dktX2_wiresWith_1 : List UInt8 := dkwX2_wiresWith_1 ++ []
def dkwX2_wiresWith_0 : List UInt8 := [3, 61, 3, 62, 29, 16, 9, 42, 182, 1, 17, 104, 162, 0, 29, 28, 42, 29, 27, 182, 0, 134]
abbrev dktX2_wiresWith_0 : List UInt8 := dkwX2_wiresWith_0 ++ dktX2_wiresWith_1
theorem dksX2_wiresWith_0 : cX2_wiresWith.data.toList.drop 0 = dktX2_wiresWith_0 := by decide +kernel
theorem dksX2_wiresWith_1 : cX2_wiresWith.data.toList.drop 22 = dktX2_wiresWith_1 := dk_seg dksX2_wiresWith_0 22 rfl rfl
theorem dX2_wiresWith_0 : decode cX2_wiresWith 0 = .ok (.iconst 0, 1) := dk_3 (dk_at dksX2_wiresWith_0 0 rfl rfl)
theorem dX2_wiresWith_1 : decode cX2_wiresWith 1 = .ok (.istore_n 2, 1) := dk_61 (dk_at dksX2_wiresWith_0 1 rfl rfl)
theorem dX2_wiresWith_2 : decode cX2_wiresWith 2 = .ok (.iconst 0, 1) := dk_3 (dk_at dksX2_wiresWith_0 2 rfl rfl)
theorem dX2_wiresWith_3 : decode cX2_wiresWith 3 = .ok (.istore_n 3, 1) := dk_62 (dk_at dksX2_wiresWith_0 3 rfl rfl)
theorem dX2_wiresWith_4 : decode cX2_wiresWith 4 = .ok (.iload_n 3, 1) := dk_29 (dk_at dksX2_wiresWith_0 4 rfl rfl)
theorem dX2_wiresWith_5 : decode cX2_wiresWith 5 = .ok (.bipush 9, 2) := dk_16 9 (dk_at dksX2_wiresWith_0 5 rfl rfl)
theorem dX2_wiresWith_7 : decode cX2_wiresWith 7 = .ok (.aload_n 0, 1) := dk_42 (dk_at dksX2_wiresWith_0 7 rfl rfl)
theorem dX2_wiresWith_8 : decode cX2_wiresWith 8 = .ok (.invokevirtual 273, 3) := dk_182 1 17 (dk_at dksX2_wiresWith_0 8 rfl rfl)
theorem dX2_wiresWith_11 : decode cX2_wiresWith 11 = .ok (.imul, 1) := dk_104 (dk_at dksX2_wiresWith_0 11 rfl rfl)
theorem dX2_wiresWith_12 : decode cX2_wiresWith 12 = .ok (.if_icmp .ge 29, 3) := dk_162 0 29 (dk_at dksX2_wiresWith_0 12 rfl rfl)
theorem dX2_wiresWith_15 : decode cX2_wiresWith 15 = .ok (.iload_n 2, 1) := dk_28 (dk_at dksX2_wiresWith_0 15 rfl rfl)
theorem dX2_wiresWith_16 : decode cX2_wiresWith 16 = .ok (.aload_n 0, 1) := dk_42 (dk_at dksX2_wiresWith_0 16 rfl rfl)
theorem dX2_wiresWith_17 : decode cX2_wiresWith 17 = .ok (.iload_n 3, 1) := dk_29 (dk_at dksX2_wiresWith_0 17 rfl rfl)
theorem dX2_wiresWith_18 : decode cX2_wiresWith 18 = .ok (.iload_n 1, 1) := dk_27 (dk_at dksX2_wiresWith_0 18 rfl rfl)
theorem dX2_wiresWith_19 : decode cX2_wiresWith 19 = .ok (.invokevirtual 134, 3) := dk_182 0 134 (dk_at dksX2_wiresWith_0 19 rfl rfl)
theorem dX2_wiresWith_22 : decode cX2_wiresWith 22 = .ok (.ifCond .le 7, 3) := dk_158 0 7 (dk_at dksX2_wiresWith_1 0 rfl rfl)
theorem dX2_wiresWith_25 : decode cX2_wiresWith 25 = .ok (.iconst 1, 1) := dk_4 (dk_at dksX2_wiresWith_1 3 rfl rfl)
theorem dX2_wiresWith_26 : decode cX2_wiresWith 26 = .ok (.goto 4, 3) := dk_167 0 4 (dk_at dksX2_wiresWith_1 4 rfl rfl)
theorem dX2_wiresWith_29 : decode cX2_wiresWith 29 = .ok (.iconst 0, 1) := dk_3 (dk_at dksX2_wiresWith_1 7 rfl rfl)
theorem dX2_wiresWith_30 : decode cX2_wiresWith 30 = .ok (.invokestatic 260, 3) := dk_184 1 4 (dk_at dksX2_wiresWith_1 8 rfl rfl)
theorem dX2_wiresWith_33 : decode cX2_wiresWith 33 = .ok (.iadd, 1) := dk_96 (dk_at dksX2_wiresWith_1 11 rfl rfl)
theorem dX2_wiresWith_34 : decode cX2_wiresWith 34 = .ok (.istore_n 2, 1) := dk_61 (dk_at dksX2_wiresWith_1 12 rfl rfl)
theorem dX2_wiresWith_35 : decode cX2_wiresWith 35 = .ok (.iinc 3 1, 3) := dk_132 3 1 (dk_at dksX2_wiresWith_1 13 rfl rfl)
theorem dX2_wiresWith_38 : decode cX2_wiresWith 38 = .ok (.goto (-34), 3) := dk_167 255 222 (dk_at dksX2_wiresWith_1 16 rfl rfl)
theorem dX2_wiresWith_41 : decode cX2_wiresWith 41 = .ok (.iload_n 2, 1) := dk_28 (dk_at dksX2_wiresWith_1 19 rfl rfl)
theorem dX2_wiresWith_42 : decode cX2_wiresWith 42 = .ok (.ireturn, 1) := dk_172 (dk_at dksX2_wiresWith_1 20 rfl rfl)
abbrev cX2_wire : ByteArray := prog_12_method_73_code
def yX2_wire : MethodName := ⟨RX2, "wire", "(IIII)I"⟩
def dkwX2_wire_1 : List UInt8 := [153, 0, 18, 42, 27, 28, 29, 184, 0, 126, 21, 4, 182, 0, 134, 167, 0, 4, 3, 172]
abbrev dktX2_wire_1 : List UInt8 := dkwX2_wire_1 ++ []
def dkwX2_wire_0 : List UInt8 := [42, 42, 180, 0, 56, 42, 27, 28, 29, 182, 1, 50, 21, 4, 3, 7, 184, 0, 77, 182, 0, 52]
abbrev dktX2_wire_0 : List UInt8 := dkwX2_wire_0 ++ dktX2_wire_1
theorem dksX2_wire_0 : cX2_wire.data.toList.drop 0 = dktX2_wire_0 := by decide +kernel
theorem dksX2_wire_1 : cX2_wire.data.toList.drop 22 = dktX2_wire_1 := dk_seg dksX2_wire_0 22 rfl rfl
theorem dX2_wire_0 : decode cX2_wire 0 = .ok (.aload_n 0, 1) := dk_42 (dk_at dksX2_wire_0 0 rfl rfl)
theorem dX2_wire_1 : decode cX2_wire 1 = .ok (.aload_n 0, 1) := dk_42 (dk_at dksX2_wire_0 1 rfl rfl)
theorem dX2_wire_2 : decode cX2_wire 2 = .ok (.getfield 56, 3) := dk_180 0 56 (dk_at dksX2_wire_0 2 rfl rfl)
theorem dX2_wire_5 : decode cX2_wire 5 = .ok (.aload_n 0, 1) := dk_42 (dk_at dksX2_wire_0 5 rfl rfl)
theorem dX2_wire_6 : decode cX2_wire 6 = .ok (.iload_n 1, 1) := dk_27 (dk_at dksX2_wire_0 6 rfl rfl)
theorem dX2_wire_7 : decode cX2_wire 7 = .ok (.iload_n 2, 1) := dk_28 (dk_at dksX2_wire_0 7 rfl rfl)
theorem dX2_wire_8 : decode cX2_wire 8 = .ok (.iload_n 3, 1) := dk_29 (dk_at dksX2_wire_0 8 rfl rfl)
theorem dX2_wire_9 : decode cX2_wire 9 = .ok (.invokevirtual 306, 3) := dk_182 1 50 (dk_at dksX2_wire_0 9 rfl rfl)
theorem dX2_wire_12 : decode cX2_wire 12 = .ok (.iload 4, 2) := dk_21 4 (dk_at dksX2_wire_0 12 rfl rfl)
theorem dX2_wire_14 : decode cX2_wire 14 = .ok (.iconst 0, 1) := dk_3 (dk_at dksX2_wire_0 14 rfl rfl)
theorem dX2_wire_15 : decode cX2_wire 15 = .ok (.iconst 4, 1) := dk_7 (dk_at dksX2_wire_0 15 rfl rfl)
theorem dX2_wire_16 : decode cX2_wire 16 = .ok (.invokestatic 77, 3) := dk_184 0 77 (dk_at dksX2_wire_0 16 rfl rfl)
theorem dX2_wire_19 : decode cX2_wire 19 = .ok (.invokevirtual 52, 3) := dk_182 0 52 (dk_at dksX2_wire_0 19 rfl rfl)
theorem dX2_wire_22 : decode cX2_wire 22 = .ok (.ifCond .eq 18, 3) := dk_153 0 18 (dk_at dksX2_wire_1 0 rfl rfl)
theorem dX2_wire_25 : decode cX2_wire 25 = .ok (.aload_n 0, 1) := dk_42 (dk_at dksX2_wire_1 3 rfl rfl)
theorem dX2_wire_26 : decode cX2_wire 26 = .ok (.iload_n 1, 1) := dk_27 (dk_at dksX2_wire_1 4 rfl rfl)
theorem dX2_wire_27 : decode cX2_wire 27 = .ok (.iload_n 2, 1) := dk_28 (dk_at dksX2_wire_1 5 rfl rfl)
theorem dX2_wire_28 : decode cX2_wire 28 = .ok (.iload_n 3, 1) := dk_29 (dk_at dksX2_wire_1 6 rfl rfl)
theorem dX2_wire_29 : decode cX2_wire 29 = .ok (.invokestatic 126, 3) := dk_184 0 126 (dk_at dksX2_wire_1 7 rfl rfl)
theorem dX2_wire_32 : decode cX2_wire 32 = .ok (.iload 4, 2) := dk_21 4 (dk_at dksX2_wire_1 10 rfl rfl)
theorem dX2_wire_34 : decode cX2_wire 34 = .ok (.invokevirtual 134, 3) := dk_182 0 134 (dk_at dksX2_wire_1 12 rfl rfl)
theorem dX2_wire_37 : decode cX2_wire 37 = .ok (.goto 4, 3) := dk_167 0 4 (dk_at dksX2_wire_1 15 rfl rfl)
theorem dX2_wire_40 : decode cX2_wire 40 = .ok (.iconst 0, 1) := dk_3 (dk_at dksX2_wire_1 18 rfl rfl)
theorem dX2_wire_41 : decode cX2_wire 41 = .ok (.ireturn, 1) := dk_172 (dk_at dksX2_wire_1 19 rfl rfl)
abbrev cX2_isWire : ByteArray := prog_12_method_68_code
def yX2_isWire : MethodName := ⟨RX2, "isWire", "(III)Z"⟩
def dkwX2_isWire_1 : List UInt8 := [28, 182, 1, 44, 153, 0, 15, 42, 29, 182, 1, 44, 153, 0, 7, 4, 167, 0, 4, 3, 172]
abbrev dktX2_isWire_1 : List UInt8 := dkwX2_isWire_1 ++ []
def dkwX2_isWire_0 : List UInt8 := [42, 180, 0, 56, 153, 0, 39, 27, 3, 42, 180, 0, 9, 3, 46, 5, 100, 184, 0, 77, 153, 0, 23, 42]
abbrev dktX2_isWire_0 : List UInt8 := dkwX2_isWire_0 ++ dktX2_isWire_1
theorem dksX2_isWire_0 : cX2_isWire.data.toList.drop 0 = dktX2_isWire_0 := by decide +kernel
theorem dksX2_isWire_1 : cX2_isWire.data.toList.drop 24 = dktX2_isWire_1 := dk_seg dksX2_isWire_0 24 rfl rfl
theorem dX2_isWire_0 : decode cX2_isWire 0 = .ok (.aload_n 0, 1) := dk_42 (dk_at dksX2_isWire_0 0 rfl rfl)
theorem dX2_isWire_1 : decode cX2_isWire 1 = .ok (.getfield 56, 3) := dk_180 0 56 (dk_at dksX2_isWire_0 1 rfl rfl)
theorem dX2_isWire_4 : decode cX2_isWire 4 = .ok (.ifCond .eq 39, 3) := dk_153 0 39 (dk_at dksX2_isWire_0 4 rfl rfl)
theorem dX2_isWire_7 : decode cX2_isWire 7 = .ok (.iload_n 1, 1) := dk_27 (dk_at dksX2_isWire_0 7 rfl rfl)
theorem dX2_isWire_8 : decode cX2_isWire 8 = .ok (.iconst 0, 1) := dk_3 (dk_at dksX2_isWire_0 8 rfl rfl)
theorem dX2_isWire_9 : decode cX2_isWire 9 = .ok (.aload_n 0, 1) := dk_42 (dk_at dksX2_isWire_0 9 rfl rfl)
theorem dX2_isWire_10 : decode cX2_isWire 10 = .ok (.getfield 9, 3) := dk_180 0 9 (dk_at dksX2_isWire_0 10 rfl rfl)
theorem dX2_isWire_13 : decode cX2_isWire 13 = .ok (.iconst 0, 1) := dk_3 (dk_at dksX2_isWire_0 13 rfl rfl)
theorem dX2_isWire_14 : decode cX2_isWire 14 = .ok (.iaload, 1) := dk_46 (dk_at dksX2_isWire_0 14 rfl rfl)
theorem dX2_isWire_15 : decode cX2_isWire 15 = .ok (.iconst 2, 1) := dk_5 (dk_at dksX2_isWire_0 15 rfl rfl)
theorem dX2_isWire_16 : decode cX2_isWire 16 = .ok (.isub, 1) := dk_100 (dk_at dksX2_isWire_0 16 rfl rfl)
theorem dX2_isWire_17 : decode cX2_isWire 17 = .ok (.invokestatic 77, 3) := dk_184 0 77 (dk_at dksX2_isWire_0 17 rfl rfl)
theorem dX2_isWire_20 : decode cX2_isWire 20 = .ok (.ifCond .eq 23, 3) := dk_153 0 23 (dk_at dksX2_isWire_0 20 rfl rfl)
theorem dX2_isWire_23 : decode cX2_isWire 23 = .ok (.aload_n 0, 1) := dk_42 (dk_at dksX2_isWire_0 23 rfl rfl)
theorem dX2_isWire_24 : decode cX2_isWire 24 = .ok (.iload_n 2, 1) := dk_28 (dk_at dksX2_isWire_1 0 rfl rfl)
theorem dX2_isWire_25 : decode cX2_isWire 25 = .ok (.invokevirtual 300, 3) := dk_182 1 44 (dk_at dksX2_isWire_1 1 rfl rfl)
theorem dX2_isWire_28 : decode cX2_isWire 28 = .ok (.ifCond .eq 15, 3) := dk_153 0 15 (dk_at dksX2_isWire_1 4 rfl rfl)
theorem dX2_isWire_31 : decode cX2_isWire 31 = .ok (.aload_n 0, 1) := dk_42 (dk_at dksX2_isWire_1 7 rfl rfl)
theorem dX2_isWire_32 : decode cX2_isWire 32 = .ok (.iload_n 3, 1) := dk_29 (dk_at dksX2_isWire_1 8 rfl rfl)
theorem dX2_isWire_33 : decode cX2_isWire 33 = .ok (.invokevirtual 300, 3) := dk_182 1 44 (dk_at dksX2_isWire_1 9 rfl rfl)
theorem dX2_isWire_36 : decode cX2_isWire 36 = .ok (.ifCond .eq 7, 3) := dk_153 0 7 (dk_at dksX2_isWire_1 12 rfl rfl)
theorem dX2_isWire_39 : decode cX2_isWire 39 = .ok (.iconst 1, 1) := dk_4 (dk_at dksX2_isWire_1 15 rfl rfl)
theorem dX2_isWire_40 : decode cX2_isWire 40 = .ok (.goto 4, 3) := dk_167 0 4 (dk_at dksX2_isWire_1 16 rfl rfl)
theorem dX2_isWire_43 : decode cX2_isWire 43 = .ok (.iconst 0, 1) := dk_3 (dk_at dksX2_isWire_1 19 rfl rfl)
theorem dX2_isWire_44 : decode cX2_isWire 44 = .ok (.ireturn, 1) := dk_172 (dk_at dksX2_isWire_1 20 rfl rfl)
abbrev cX2_isHut : ByteArray := prog_12_method_67_code
def yX2_isHut : MethodName := ⟨RX2, "isHut", "(I)Z"⟩
def dkwX2_isHut_0 : List UInt8 := [27, 3, 5, 184, 0, 77, 172]
abbrev dktX2_isHut_0 : List UInt8 := dkwX2_isHut_0 ++ []
theorem dksX2_isHut_0 : cX2_isHut.data.toList.drop 0 = dktX2_isHut_0 := by decide +kernel
theorem dX2_isHut_0 : decode cX2_isHut 0 = .ok (.iload_n 1, 1) := dk_27 (dk_at dksX2_isHut_0 0 rfl rfl)
theorem dX2_isHut_1 : decode cX2_isHut 1 = .ok (.iconst 0, 1) := dk_3 (dk_at dksX2_isHut_0 1 rfl rfl)
theorem dX2_isHut_2 : decode cX2_isHut 2 = .ok (.iconst 2, 1) := dk_5 (dk_at dksX2_isHut_0 2 rfl rfl)
theorem dX2_isHut_3 : decode cX2_isHut 3 = .ok (.invokestatic 77, 3) := dk_184 0 77 (dk_at dksX2_isHut_0 3 rfl rfl)
theorem dX2_isHut_6 : decode cX2_isHut 6 = .ok (.ireturn, 1) := dk_172 (dk_at dksX2_isHut_0 6 rfl rfl)
abbrev cX2_garbles : ByteArray := prog_12_method_74_code
def yX2_garbles : MethodName := ⟨RX2, "garbles", "(IIIII)Z"⟩
def dkwX2_garbles_2 : List UInt8 := [28, 29, 184, 0, 126, 21, 4, 21, 5, 182, 0, 232, 153, 0, 7, 4, 167, 0, 4, 3, 172]
abbrev dktX2_garbles_2 : List UInt8 := dkwX2_garbles_2 ++ []
def dkwX2_garbles_1 : List UInt8 := [21, 5, 3, 16, 11, 184, 0, 77, 153, 0, 7, 4, 167, 0, 4, 3, 182, 0, 52, 153, 0, 24, 42, 27]
abbrev dktX2_garbles_1 : List UInt8 := dkwX2_garbles_1 ++ dktX2_garbles_2
def dkwX2_garbles_0 : List UInt8 := [42, 42, 180, 0, 56, 42, 27, 28, 29, 182, 1, 50, 21, 4, 3, 17, 39, 15, 184, 0, 77, 153, 0, 18]
abbrev dktX2_garbles_0 : List UInt8 := dkwX2_garbles_0 ++ dktX2_garbles_1
theorem dksX2_garbles_0 : cX2_garbles.data.toList.drop 0 = dktX2_garbles_0 := by decide +kernel
theorem dksX2_garbles_1 : cX2_garbles.data.toList.drop 24 = dktX2_garbles_1 := dk_seg dksX2_garbles_0 24 rfl rfl
theorem dksX2_garbles_2 : cX2_garbles.data.toList.drop 48 = dktX2_garbles_2 := dk_seg dksX2_garbles_1 24 rfl rfl
theorem dX2_garbles_0 : decode cX2_garbles 0 = .ok (.aload_n 0, 1) := dk_42 (dk_at dksX2_garbles_0 0 rfl rfl)
theorem dX2_garbles_1 : decode cX2_garbles 1 = .ok (.aload_n 0, 1) := dk_42 (dk_at dksX2_garbles_0 1 rfl rfl)
theorem dX2_garbles_2 : decode cX2_garbles 2 = .ok (.getfield 56, 3) := dk_180 0 56 (dk_at dksX2_garbles_0 2 rfl rfl)
theorem dX2_garbles_5 : decode cX2_garbles 5 = .ok (.aload_n 0, 1) := dk_42 (dk_at dksX2_garbles_0 5 rfl rfl)
theorem dX2_garbles_6 : decode cX2_garbles 6 = .ok (.iload_n 1, 1) := dk_27 (dk_at dksX2_garbles_0 6 rfl rfl)
theorem dX2_garbles_7 : decode cX2_garbles 7 = .ok (.iload_n 2, 1) := dk_28 (dk_at dksX2_garbles_0 7 rfl rfl)
theorem dX2_garbles_8 : decode cX2_garbles 8 = .ok (.iload_n 3, 1) := dk_29 (dk_at dksX2_garbles_0 8 rfl rfl)
theorem dX2_garbles_9 : decode cX2_garbles 9 = .ok (.invokevirtual 306, 3) := dk_182 1 50 (dk_at dksX2_garbles_0 9 rfl rfl)
theorem dX2_garbles_12 : decode cX2_garbles 12 = .ok (.iload 4, 2) := dk_21 4 (dk_at dksX2_garbles_0 12 rfl rfl)
theorem dX2_garbles_14 : decode cX2_garbles 14 = .ok (.iconst 0, 1) := dk_3 (dk_at dksX2_garbles_0 14 rfl rfl)
theorem dX2_garbles_15 : decode cX2_garbles 15 = .ok (.sipush 9999, 3) := dk_17 39 15 (dk_at dksX2_garbles_0 15 rfl rfl)
theorem dX2_garbles_18 : decode cX2_garbles 18 = .ok (.invokestatic 77, 3) := dk_184 0 77 (dk_at dksX2_garbles_0 18 rfl rfl)
theorem dX2_garbles_21 : decode cX2_garbles 21 = .ok (.ifCond .eq 18, 3) := dk_153 0 18 (dk_at dksX2_garbles_0 21 rfl rfl)
theorem dX2_garbles_24 : decode cX2_garbles 24 = .ok (.iload 5, 2) := dk_21 5 (dk_at dksX2_garbles_1 0 rfl rfl)
theorem dX2_garbles_26 : decode cX2_garbles 26 = .ok (.iconst 0, 1) := dk_3 (dk_at dksX2_garbles_1 2 rfl rfl)
theorem dX2_garbles_27 : decode cX2_garbles 27 = .ok (.bipush 11, 2) := dk_16 11 (dk_at dksX2_garbles_1 3 rfl rfl)
theorem dX2_garbles_29 : decode cX2_garbles 29 = .ok (.invokestatic 77, 3) := dk_184 0 77 (dk_at dksX2_garbles_1 5 rfl rfl)
theorem dX2_garbles_32 : decode cX2_garbles 32 = .ok (.ifCond .eq 7, 3) := dk_153 0 7 (dk_at dksX2_garbles_1 8 rfl rfl)
theorem dX2_garbles_35 : decode cX2_garbles 35 = .ok (.iconst 1, 1) := dk_4 (dk_at dksX2_garbles_1 11 rfl rfl)
theorem dX2_garbles_36 : decode cX2_garbles 36 = .ok (.goto 4, 3) := dk_167 0 4 (dk_at dksX2_garbles_1 12 rfl rfl)
theorem dX2_garbles_39 : decode cX2_garbles 39 = .ok (.iconst 0, 1) := dk_3 (dk_at dksX2_garbles_1 15 rfl rfl)
theorem dX2_garbles_40 : decode cX2_garbles 40 = .ok (.invokevirtual 52, 3) := dk_182 0 52 (dk_at dksX2_garbles_1 16 rfl rfl)
theorem dX2_garbles_43 : decode cX2_garbles 43 = .ok (.ifCond .eq 24, 3) := dk_153 0 24 (dk_at dksX2_garbles_1 19 rfl rfl)
theorem dX2_garbles_46 : decode cX2_garbles 46 = .ok (.aload_n 0, 1) := dk_42 (dk_at dksX2_garbles_1 22 rfl rfl)
theorem dX2_garbles_47 : decode cX2_garbles 47 = .ok (.iload_n 1, 1) := dk_27 (dk_at dksX2_garbles_1 23 rfl rfl)
theorem dX2_garbles_48 : decode cX2_garbles 48 = .ok (.iload_n 2, 1) := dk_28 (dk_at dksX2_garbles_2 0 rfl rfl)
theorem dX2_garbles_49 : decode cX2_garbles 49 = .ok (.iload_n 3, 1) := dk_29 (dk_at dksX2_garbles_2 1 rfl rfl)
theorem dX2_garbles_50 : decode cX2_garbles 50 = .ok (.invokestatic 126, 3) := dk_184 0 126 (dk_at dksX2_garbles_2 2 rfl rfl)
theorem dX2_garbles_53 : decode cX2_garbles 53 = .ok (.iload 4, 2) := dk_21 4 (dk_at dksX2_garbles_2 5 rfl rfl)
theorem dX2_garbles_55 : decode cX2_garbles 55 = .ok (.iload 5, 2) := dk_21 5 (dk_at dksX2_garbles_2 7 rfl rfl)
theorem dX2_garbles_57 : decode cX2_garbles 57 = .ok (.invokevirtual 232, 3) := dk_182 0 232 (dk_at dksX2_garbles_2 9 rfl rfl)
theorem dX2_garbles_60 : decode cX2_garbles 60 = .ok (.ifCond .eq 7, 3) := dk_153 0 7 (dk_at dksX2_garbles_2 12 rfl rfl)
theorem dX2_garbles_63 : decode cX2_garbles 63 = .ok (.iconst 1, 1) := dk_4 (dk_at dksX2_garbles_2 15 rfl rfl)
theorem dX2_garbles_64 : decode cX2_garbles 64 = .ok (.goto 4, 3) := dk_167 0 4 (dk_at dksX2_garbles_2 16 rfl rfl)
theorem dX2_garbles_67 : decode cX2_garbles 67 = .ok (.iconst 0, 1) := dk_3 (dk_at dksX2_garbles_2 19 rfl rfl)
theorem dX2_garbles_68 : decode cX2_garbles 68 = .ok (.ireturn, 1) := dk_172 (dk_at dksX2_garbles_2 20 rfl rfl)
abbrev cX2_comes : ByteArray := prog_12_method_75_code
def yX2_comes : MethodName := ⟨RX2, "comes", "(IIIII)I"⟩
def dkwX2_comes_3 : List UInt8 := [21, 4, 21, 5, 182, 0, 235, 172]
abbrev dktX2_comes_3 : List UInt8 := dkwX2_comes_3 ++ []
def dkwX2_comes_2 : List UInt8 := [184, 0, 126, 54, 6, 42, 21, 6, 5, 182, 0, 134, 4, 160, 0, 7, 2, 167, 0, 13, 42, 21, 6]
abbrev dktX2_comes_2 : List UInt8 := dkwX2_comes_2 ++ dktX2_comes_3
def dkwX2_comes_1 : List UInt8 := [21, 5, 184, 1, 53, 153, 0, 7, 4, 167, 0, 4, 3, 182, 0, 52, 154, 0, 5, 3, 172, 27, 28, 29]
abbrev dktX2_comes_1 : List UInt8 := dkwX2_comes_1 ++ dktX2_comes_2
def dkwX2_comes_0 : List UInt8 := [42, 42, 180, 0, 56, 42, 27, 28, 29, 182, 1, 50, 21, 4, 3, 16, 11, 184, 0, 77, 153, 0, 15]
abbrev dktX2_comes_0 : List UInt8 := dkwX2_comes_0 ++ dktX2_comes_1
theorem dksX2_comes_0 : cX2_comes.data.toList.drop 0 = dktX2_comes_0 := by decide +kernel
theorem dksX2_comes_1 : cX2_comes.data.toList.drop 23 = dktX2_comes_1 := dk_seg dksX2_comes_0 23 rfl rfl
theorem dksX2_comes_2 : cX2_comes.data.toList.drop 47 = dktX2_comes_2 := dk_seg dksX2_comes_1 24 rfl rfl
theorem dksX2_comes_3 : cX2_comes.data.toList.drop 70 = dktX2_comes_3 := dk_seg dksX2_comes_2 23 rfl rfl
theorem dX2_comes_0 : decode cX2_comes 0 = .ok (.aload_n 0, 1) := dk_42 (dk_at dksX2_comes_0 0 rfl rfl)
theorem dX2_comes_1 : decode cX2_comes 1 = .ok (.aload_n 0, 1) := dk_42 (dk_at dksX2_comes_0 1 rfl rfl)
theorem dX2_comes_2 : decode cX2_comes 2 = .ok (.getfield 56, 3) := dk_180 0 56 (dk_at dksX2_comes_0 2 rfl rfl)
theorem dX2_comes_5 : decode cX2_comes 5 = .ok (.aload_n 0, 1) := dk_42 (dk_at dksX2_comes_0 5 rfl rfl)
theorem dX2_comes_6 : decode cX2_comes 6 = .ok (.iload_n 1, 1) := dk_27 (dk_at dksX2_comes_0 6 rfl rfl)
theorem dX2_comes_7 : decode cX2_comes 7 = .ok (.iload_n 2, 1) := dk_28 (dk_at dksX2_comes_0 7 rfl rfl)
theorem dX2_comes_8 : decode cX2_comes 8 = .ok (.iload_n 3, 1) := dk_29 (dk_at dksX2_comes_0 8 rfl rfl)
theorem dX2_comes_9 : decode cX2_comes 9 = .ok (.invokevirtual 306, 3) := dk_182 1 50 (dk_at dksX2_comes_0 9 rfl rfl)
theorem dX2_comes_12 : decode cX2_comes 12 = .ok (.iload 4, 2) := dk_21 4 (dk_at dksX2_comes_0 12 rfl rfl)
theorem dX2_comes_14 : decode cX2_comes 14 = .ok (.iconst 0, 1) := dk_3 (dk_at dksX2_comes_0 14 rfl rfl)
theorem dX2_comes_15 : decode cX2_comes 15 = .ok (.bipush 11, 2) := dk_16 11 (dk_at dksX2_comes_0 15 rfl rfl)
theorem dX2_comes_17 : decode cX2_comes 17 = .ok (.invokestatic 77, 3) := dk_184 0 77 (dk_at dksX2_comes_0 17 rfl rfl)
theorem dX2_comes_20 : decode cX2_comes 20 = .ok (.ifCond .eq 15, 3) := dk_153 0 15 (dk_at dksX2_comes_0 20 rfl rfl)
theorem dX2_comes_23 : decode cX2_comes 23 = .ok (.iload 5, 2) := dk_21 5 (dk_at dksX2_comes_1 0 rfl rfl)
theorem dX2_comes_25 : decode cX2_comes 25 = .ok (.invokestatic 309, 3) := dk_184 1 53 (dk_at dksX2_comes_1 2 rfl rfl)
theorem dX2_comes_28 : decode cX2_comes 28 = .ok (.ifCond .eq 7, 3) := dk_153 0 7 (dk_at dksX2_comes_1 5 rfl rfl)
theorem dX2_comes_31 : decode cX2_comes 31 = .ok (.iconst 1, 1) := dk_4 (dk_at dksX2_comes_1 8 rfl rfl)
theorem dX2_comes_32 : decode cX2_comes 32 = .ok (.goto 4, 3) := dk_167 0 4 (dk_at dksX2_comes_1 9 rfl rfl)
theorem dX2_comes_35 : decode cX2_comes 35 = .ok (.iconst 0, 1) := dk_3 (dk_at dksX2_comes_1 12 rfl rfl)
theorem dX2_comes_36 : decode cX2_comes 36 = .ok (.invokevirtual 52, 3) := dk_182 0 52 (dk_at dksX2_comes_1 13 rfl rfl)
theorem dX2_comes_39 : decode cX2_comes 39 = .ok (.ifCond .ne 5, 3) := dk_154 0 5 (dk_at dksX2_comes_1 16 rfl rfl)
theorem dX2_comes_42 : decode cX2_comes 42 = .ok (.iconst 0, 1) := dk_3 (dk_at dksX2_comes_1 19 rfl rfl)
theorem dX2_comes_43 : decode cX2_comes 43 = .ok (.ireturn, 1) := dk_172 (dk_at dksX2_comes_1 20 rfl rfl)
theorem dX2_comes_44 : decode cX2_comes 44 = .ok (.iload_n 1, 1) := dk_27 (dk_at dksX2_comes_1 21 rfl rfl)
theorem dX2_comes_45 : decode cX2_comes 45 = .ok (.iload_n 2, 1) := dk_28 (dk_at dksX2_comes_1 22 rfl rfl)
theorem dX2_comes_46 : decode cX2_comes 46 = .ok (.iload_n 3, 1) := dk_29 (dk_at dksX2_comes_1 23 rfl rfl)
theorem dX2_comes_47 : decode cX2_comes 47 = .ok (.invokestatic 126, 3) := dk_184 0 126 (dk_at dksX2_comes_2 0 rfl rfl)
theorem dX2_comes_50 : decode cX2_comes 50 = .ok (.istore 6, 2) := dk_54 6 (dk_at dksX2_comes_2 3 rfl rfl)
theorem dX2_comes_52 : decode cX2_comes 52 = .ok (.aload_n 0, 1) := dk_42 (dk_at dksX2_comes_2 5 rfl rfl)
theorem dX2_comes_53 : decode cX2_comes 53 = .ok (.iload 6, 2) := dk_21 6 (dk_at dksX2_comes_2 6 rfl rfl)
theorem dX2_comes_55 : decode cX2_comes 55 = .ok (.iconst 2, 1) := dk_5 (dk_at dksX2_comes_2 8 rfl rfl)
theorem dX2_comes_56 : decode cX2_comes 56 = .ok (.invokevirtual 134, 3) := dk_182 0 134 (dk_at dksX2_comes_2 9 rfl rfl)
theorem dX2_comes_59 : decode cX2_comes 59 = .ok (.iconst 1, 1) := dk_4 (dk_at dksX2_comes_2 12 rfl rfl)
theorem dX2_comes_60 : decode cX2_comes 60 = .ok (.if_icmp .ne 7, 3) := dk_160 0 7 (dk_at dksX2_comes_2 13 rfl rfl)
theorem dX2_comes_63 : decode cX2_comes 63 = .ok (.iconst (-1), 1) := dk_2 (dk_at dksX2_comes_2 16 rfl rfl)
theorem dX2_comes_64 : decode cX2_comes 64 = .ok (.goto 13, 3) := dk_167 0 13 (dk_at dksX2_comes_2 17 rfl rfl)
theorem dX2_comes_67 : decode cX2_comes 67 = .ok (.aload_n 0, 1) := dk_42 (dk_at dksX2_comes_2 20 rfl rfl)
theorem dX2_comes_68 : decode cX2_comes 68 = .ok (.iload 6, 2) := dk_21 6 (dk_at dksX2_comes_2 21 rfl rfl)
theorem dX2_comes_70 : decode cX2_comes 70 = .ok (.iload 4, 2) := dk_21 4 (dk_at dksX2_comes_3 0 rfl rfl)
theorem dX2_comes_72 : decode cX2_comes 72 = .ok (.iload 5, 2) := dk_21 5 (dk_at dksX2_comes_3 2 rfl rfl)
theorem dX2_comes_74 : decode cX2_comes 74 = .ok (.invokevirtual 235, 3) := dk_182 0 235 (dk_at dksX2_comes_3 4 rfl rfl)
theorem dX2_comes_77 : decode cX2_comes 77 = .ok (.ireturn, 1) := dk_172 (dk_at dksX2_comes_3 7 rfl rfl)
abbrev cX2_isTen : ByteArray := prog_12_method_72_code
def yX2_isTen : MethodName := ⟨RX2, "isTen", "(I)Z"⟩
def dkwX2_isTen_0 : List UInt8 := [26, 3, 16, 9, 184, 0, 77, 172]
abbrev dktX2_isTen_0 : List UInt8 := dkwX2_isTen_0 ++ []
theorem dksX2_isTen_0 : cX2_isTen.data.toList.drop 0 = dktX2_isTen_0 := by decide +kernel
theorem dX2_isTen_0 : decode cX2_isTen 0 = .ok (.iload_n 0, 1) := dk_26 (dk_at dksX2_isTen_0 0 rfl rfl)
theorem dX2_isTen_1 : decode cX2_isTen 1 = .ok (.iconst 0, 1) := dk_3 (dk_at dksX2_isTen_0 1 rfl rfl)
theorem dX2_isTen_2 : decode cX2_isTen 2 = .ok (.bipush 9, 2) := dk_16 9 (dk_at dksX2_isTen_0 2 rfl rfl)
theorem dX2_isTen_4 : decode cX2_isTen 4 = .ok (.invokestatic 77, 3) := dk_184 0 77 (dk_at dksX2_isTen_0 4 rfl rfl)
theorem dX2_isTen_7 : decode cX2_isTen 7 = .ok (.ireturn, 1) := dk_172 (dk_at dksX2_isTen_0 7 rfl rfl)
abbrev cX2_worstWire : ByteArray := prog_12_method_76_code
def yX2_worstWire : MethodName := ⟨RX2, "worstWire", "()I"⟩
def dkwX2_worstWire_2 : List UInt8 := [60, 132, 3, 1, 167, 255, 220, 27, 172]
abbrev dktX2_worstWire_2 : List UInt8 := dkwX2_worstWire_2 ++ []
def dkwX2_worstWire_1 : List UInt8 := [162, 0, 31, 42, 29, 7, 182, 0, 134, 28, 163, 0, 6, 167, 0, 12, 42, 29, 7, 182, 0, 134, 61, 29]
abbrev dktX2_worstWire_1 : List UInt8 := dkwX2_worstWire_1 ++ dktX2_worstWire_2
def dkwX2_worstWire_0 : List UInt8 := [42, 182, 1, 56, 154, 0, 5, 3, 172, 2, 60, 3, 61, 3, 62, 29, 16, 9, 42, 182, 1, 17, 104]
abbrev dktX2_worstWire_0 : List UInt8 := dkwX2_worstWire_0 ++ dktX2_worstWire_1
theorem dksX2_worstWire_0 : cX2_worstWire.data.toList.drop 0 = dktX2_worstWire_0 := by decide +kernel
theorem dksX2_worstWire_1 : cX2_worstWire.data.toList.drop 23 = dktX2_worstWire_1 := dk_seg dksX2_worstWire_0 23 rfl rfl
theorem dksX2_worstWire_2 : cX2_worstWire.data.toList.drop 47 = dktX2_worstWire_2 := dk_seg dksX2_worstWire_1 24 rfl rfl
theorem dX2_worstWire_0 : decode cX2_worstWire 0 = .ok (.aload_n 0, 1) := dk_42 (dk_at dksX2_worstWire_0 0 rfl rfl)
theorem dX2_worstWire_1 : decode cX2_worstWire 1 = .ok (.invokevirtual 312, 3) := dk_182 1 56 (dk_at dksX2_worstWire_0 1 rfl rfl)
theorem dX2_worstWire_4 : decode cX2_worstWire 4 = .ok (.ifCond .ne 5, 3) := dk_154 0 5 (dk_at dksX2_worstWire_0 4 rfl rfl)
theorem dX2_worstWire_7 : decode cX2_worstWire 7 = .ok (.iconst 0, 1) := dk_3 (dk_at dksX2_worstWire_0 7 rfl rfl)
theorem dX2_worstWire_8 : decode cX2_worstWire 8 = .ok (.ireturn, 1) := dk_172 (dk_at dksX2_worstWire_0 8 rfl rfl)
theorem dX2_worstWire_9 : decode cX2_worstWire 9 = .ok (.iconst (-1), 1) := dk_2 (dk_at dksX2_worstWire_0 9 rfl rfl)
theorem dX2_worstWire_10 : decode cX2_worstWire 10 = .ok (.istore_n 1, 1) := dk_60 (dk_at dksX2_worstWire_0 10 rfl rfl)
theorem dX2_worstWire_11 : decode cX2_worstWire 11 = .ok (.iconst 0, 1) := dk_3 (dk_at dksX2_worstWire_0 11 rfl rfl)
theorem dX2_worstWire_12 : decode cX2_worstWire 12 = .ok (.istore_n 2, 1) := dk_61 (dk_at dksX2_worstWire_0 12 rfl rfl)
theorem dX2_worstWire_13 : decode cX2_worstWire 13 = .ok (.iconst 0, 1) := dk_3 (dk_at dksX2_worstWire_0 13 rfl rfl)
theorem dX2_worstWire_14 : decode cX2_worstWire 14 = .ok (.istore_n 3, 1) := dk_62 (dk_at dksX2_worstWire_0 14 rfl rfl)
theorem dX2_worstWire_15 : decode cX2_worstWire 15 = .ok (.iload_n 3, 1) := dk_29 (dk_at dksX2_worstWire_0 15 rfl rfl)
theorem dX2_worstWire_16 : decode cX2_worstWire 16 = .ok (.bipush 9, 2) := dk_16 9 (dk_at dksX2_worstWire_0 16 rfl rfl)
theorem dX2_worstWire_18 : decode cX2_worstWire 18 = .ok (.aload_n 0, 1) := dk_42 (dk_at dksX2_worstWire_0 18 rfl rfl)
theorem dX2_worstWire_19 : decode cX2_worstWire 19 = .ok (.invokevirtual 273, 3) := dk_182 1 17 (dk_at dksX2_worstWire_0 19 rfl rfl)
theorem dX2_worstWire_22 : decode cX2_worstWire 22 = .ok (.imul, 1) := dk_104 (dk_at dksX2_worstWire_0 22 rfl rfl)
theorem dX2_worstWire_23 : decode cX2_worstWire 23 = .ok (.if_icmp .ge 31, 3) := dk_162 0 31 (dk_at dksX2_worstWire_1 0 rfl rfl)
theorem dX2_worstWire_26 : decode cX2_worstWire 26 = .ok (.aload_n 0, 1) := dk_42 (dk_at dksX2_worstWire_1 3 rfl rfl)
theorem dX2_worstWire_27 : decode cX2_worstWire 27 = .ok (.iload_n 3, 1) := dk_29 (dk_at dksX2_worstWire_1 4 rfl rfl)
theorem dX2_worstWire_28 : decode cX2_worstWire 28 = .ok (.iconst 4, 1) := dk_7 (dk_at dksX2_worstWire_1 5 rfl rfl)
theorem dX2_worstWire_29 : decode cX2_worstWire 29 = .ok (.invokevirtual 134, 3) := dk_182 0 134 (dk_at dksX2_worstWire_1 6 rfl rfl)
theorem dX2_worstWire_32 : decode cX2_worstWire 32 = .ok (.iload_n 2, 1) := dk_28 (dk_at dksX2_worstWire_1 9 rfl rfl)
theorem dX2_worstWire_33 : decode cX2_worstWire 33 = .ok (.if_icmp .gt 6, 3) := dk_163 0 6 (dk_at dksX2_worstWire_1 10 rfl rfl)
theorem dX2_worstWire_36 : decode cX2_worstWire 36 = .ok (.goto 12, 3) := dk_167 0 12 (dk_at dksX2_worstWire_1 13 rfl rfl)
theorem dX2_worstWire_39 : decode cX2_worstWire 39 = .ok (.aload_n 0, 1) := dk_42 (dk_at dksX2_worstWire_1 16 rfl rfl)
theorem dX2_worstWire_40 : decode cX2_worstWire 40 = .ok (.iload_n 3, 1) := dk_29 (dk_at dksX2_worstWire_1 17 rfl rfl)
theorem dX2_worstWire_41 : decode cX2_worstWire 41 = .ok (.iconst 4, 1) := dk_7 (dk_at dksX2_worstWire_1 18 rfl rfl)
theorem dX2_worstWire_42 : decode cX2_worstWire 42 = .ok (.invokevirtual 134, 3) := dk_182 0 134 (dk_at dksX2_worstWire_1 19 rfl rfl)
theorem dX2_worstWire_45 : decode cX2_worstWire 45 = .ok (.istore_n 2, 1) := dk_61 (dk_at dksX2_worstWire_1 22 rfl rfl)
theorem dX2_worstWire_46 : decode cX2_worstWire 46 = .ok (.iload_n 3, 1) := dk_29 (dk_at dksX2_worstWire_1 23 rfl rfl)
theorem dX2_worstWire_47 : decode cX2_worstWire 47 = .ok (.istore_n 1, 1) := dk_60 (dk_at dksX2_worstWire_2 0 rfl rfl)
theorem dX2_worstWire_48 : decode cX2_worstWire 48 = .ok (.iinc 3 1, 3) := dk_132 3 1 (dk_at dksX2_worstWire_2 1 rfl rfl)
theorem dX2_worstWire_51 : decode cX2_worstWire 51 = .ok (.goto (-36), 3) := dk_167 255 220 (dk_at dksX2_worstWire_2 4 rfl rfl)
theorem dX2_worstWire_54 : decode cX2_worstWire 54 = .ok (.iload_n 1, 1) := dk_27 (dk_at dksX2_worstWire_2 7 rfl rfl)
theorem dX2_worstWire_55 : decode cX2_worstWire 55 = .ok (.ireturn, 1) := dk_172 (dk_at dksX2_worstWire_2 8 rfl rfl)
abbrev cX2_mayLook : ByteArray := prog_12_method_7_code
def yX2_mayLook : MethodName := ⟨RX2, "mayLook", "()Z"⟩
def dkwX2_mayLook_0 : List UInt8 := [42, 42, 180, 0, 56, 4, 4, 182, 0, 52, 172]
abbrev dktX2_mayLook_0 : List UInt8 := dkwX2_mayLook_0 ++ []
theorem dksX2_mayLook_0 : cX2_mayLook.data.toList.drop 0 = dktX2_mayLook_0 := by decide +kernel
theorem dX2_mayLook_0 : decode cX2_mayLook 0 = .ok (.aload_n 0, 1) := dk_42 (dk_at dksX2_mayLook_0 0 rfl rfl)
theorem dX2_mayLook_1 : decode cX2_mayLook 1 = .ok (.aload_n 0, 1) := dk_42 (dk_at dksX2_mayLook_0 1 rfl rfl)
theorem dX2_mayLook_2 : decode cX2_mayLook 2 = .ok (.getfield 56, 3) := dk_180 0 56 (dk_at dksX2_mayLook_0 2 rfl rfl)
theorem dX2_mayLook_5 : decode cX2_mayLook 5 = .ok (.iconst 1, 1) := dk_4 (dk_at dksX2_mayLook_0 5 rfl rfl)
theorem dX2_mayLook_6 : decode cX2_mayLook 6 = .ok (.iconst 1, 1) := dk_4 (dk_at dksX2_mayLook_0 6 rfl rfl)
theorem dX2_mayLook_7 : decode cX2_mayLook 7 = .ok (.invokevirtual 52, 3) := dk_182 0 52 (dk_at dksX2_mayLook_0 7 rfl rfl)
theorem dX2_mayLook_10 : decode cX2_mayLook 10 = .ok (.ireturn, 1) := dk_172 (dk_at dksX2_mayLook_0 10 rfl rfl)
abbrev cX2_stormyHours : ByteArray := prog_12_method_78_code
def yX2_stormyHours : MethodName := ⟨RX2, "stormyHours", "(IIII)I"⟩
def dkwX2_stormyHours_3 : List UInt8 := [167, 255, 219, 21, 5, 172]
abbrev dktX2_stormyHours_3 : List UInt8 := dkwX2_stormyHours_3 ++ []
def dkwX2_stormyHours_2 : List UInt8 := [184, 0, 126, 42, 180, 0, 9, 5, 46, 21, 6, 96, 182, 1, 60, 184, 1, 4, 96, 54, 5, 132, 6, 1]
abbrev dktX2_stormyHours_2 : List UInt8 := dkwX2_stormyHours_2 ++ dktX2_stormyHours_3
def dkwX2_stormyHours_1 : List UInt8 := [154, 0, 5, 3, 172, 3, 54, 5, 3, 54, 6, 21, 6, 21, 4, 162, 0, 36, 21, 5, 42, 27, 28, 29]
abbrev dktX2_stormyHours_1 : List UInt8 := dkwX2_stormyHours_1 ++ dktX2_stormyHours_2
def dkwX2_stormyHours_0 : List UInt8 := [42, 42, 180, 0, 56, 42, 27, 28, 29, 182, 1, 50, 21, 4, 4, 16, 100, 184, 0, 77, 182, 0, 52]
abbrev dktX2_stormyHours_0 : List UInt8 := dkwX2_stormyHours_0 ++ dktX2_stormyHours_1
theorem dksX2_stormyHours_0 : cX2_stormyHours.data.toList.drop 0 = dktX2_stormyHours_0 := by decide +kernel
theorem dksX2_stormyHours_1 : cX2_stormyHours.data.toList.drop 23 = dktX2_stormyHours_1 := dk_seg dksX2_stormyHours_0 23 rfl rfl
theorem dksX2_stormyHours_2 : cX2_stormyHours.data.toList.drop 47 = dktX2_stormyHours_2 := dk_seg dksX2_stormyHours_1 24 rfl rfl
theorem dksX2_stormyHours_3 : cX2_stormyHours.data.toList.drop 71 = dktX2_stormyHours_3 := dk_seg dksX2_stormyHours_2 24 rfl rfl
theorem dX2_stormyHours_0 : decode cX2_stormyHours 0 = .ok (.aload_n 0, 1) := dk_42 (dk_at dksX2_stormyHours_0 0 rfl rfl)
theorem dX2_stormyHours_1 : decode cX2_stormyHours 1 = .ok (.aload_n 0, 1) := dk_42 (dk_at dksX2_stormyHours_0 1 rfl rfl)
theorem dX2_stormyHours_2 : decode cX2_stormyHours 2 = .ok (.getfield 56, 3) := dk_180 0 56 (dk_at dksX2_stormyHours_0 2 rfl rfl)
theorem dX2_stormyHours_5 : decode cX2_stormyHours 5 = .ok (.aload_n 0, 1) := dk_42 (dk_at dksX2_stormyHours_0 5 rfl rfl)
theorem dX2_stormyHours_6 : decode cX2_stormyHours 6 = .ok (.iload_n 1, 1) := dk_27 (dk_at dksX2_stormyHours_0 6 rfl rfl)
theorem dX2_stormyHours_7 : decode cX2_stormyHours 7 = .ok (.iload_n 2, 1) := dk_28 (dk_at dksX2_stormyHours_0 7 rfl rfl)
theorem dX2_stormyHours_8 : decode cX2_stormyHours 8 = .ok (.iload_n 3, 1) := dk_29 (dk_at dksX2_stormyHours_0 8 rfl rfl)
theorem dX2_stormyHours_9 : decode cX2_stormyHours 9 = .ok (.invokevirtual 306, 3) := dk_182 1 50 (dk_at dksX2_stormyHours_0 9 rfl rfl)
theorem dX2_stormyHours_12 : decode cX2_stormyHours 12 = .ok (.iload 4, 2) := dk_21 4 (dk_at dksX2_stormyHours_0 12 rfl rfl)
theorem dX2_stormyHours_14 : decode cX2_stormyHours 14 = .ok (.iconst 1, 1) := dk_4 (dk_at dksX2_stormyHours_0 14 rfl rfl)
theorem dX2_stormyHours_15 : decode cX2_stormyHours 15 = .ok (.bipush 100, 2) := dk_16 100 (dk_at dksX2_stormyHours_0 15 rfl rfl)
theorem dX2_stormyHours_17 : decode cX2_stormyHours 17 = .ok (.invokestatic 77, 3) := dk_184 0 77 (dk_at dksX2_stormyHours_0 17 rfl rfl)
theorem dX2_stormyHours_20 : decode cX2_stormyHours 20 = .ok (.invokevirtual 52, 3) := dk_182 0 52 (dk_at dksX2_stormyHours_0 20 rfl rfl)
theorem dX2_stormyHours_23 : decode cX2_stormyHours 23 = .ok (.ifCond .ne 5, 3) := dk_154 0 5 (dk_at dksX2_stormyHours_1 0 rfl rfl)
theorem dX2_stormyHours_26 : decode cX2_stormyHours 26 = .ok (.iconst 0, 1) := dk_3 (dk_at dksX2_stormyHours_1 3 rfl rfl)
theorem dX2_stormyHours_27 : decode cX2_stormyHours 27 = .ok (.ireturn, 1) := dk_172 (dk_at dksX2_stormyHours_1 4 rfl rfl)
theorem dX2_stormyHours_28 : decode cX2_stormyHours 28 = .ok (.iconst 0, 1) := dk_3 (dk_at dksX2_stormyHours_1 5 rfl rfl)
theorem dX2_stormyHours_29 : decode cX2_stormyHours 29 = .ok (.istore 5, 2) := dk_54 5 (dk_at dksX2_stormyHours_1 6 rfl rfl)
theorem dX2_stormyHours_31 : decode cX2_stormyHours 31 = .ok (.iconst 0, 1) := dk_3 (dk_at dksX2_stormyHours_1 8 rfl rfl)
theorem dX2_stormyHours_32 : decode cX2_stormyHours 32 = .ok (.istore 6, 2) := dk_54 6 (dk_at dksX2_stormyHours_1 9 rfl rfl)
theorem dX2_stormyHours_34 : decode cX2_stormyHours 34 = .ok (.iload 6, 2) := dk_21 6 (dk_at dksX2_stormyHours_1 11 rfl rfl)
theorem dX2_stormyHours_36 : decode cX2_stormyHours 36 = .ok (.iload 4, 2) := dk_21 4 (dk_at dksX2_stormyHours_1 13 rfl rfl)
theorem dX2_stormyHours_38 : decode cX2_stormyHours 38 = .ok (.if_icmp .ge 36, 3) := dk_162 0 36 (dk_at dksX2_stormyHours_1 15 rfl rfl)
theorem dX2_stormyHours_41 : decode cX2_stormyHours 41 = .ok (.iload 5, 2) := dk_21 5 (dk_at dksX2_stormyHours_1 18 rfl rfl)
theorem dX2_stormyHours_43 : decode cX2_stormyHours 43 = .ok (.aload_n 0, 1) := dk_42 (dk_at dksX2_stormyHours_1 20 rfl rfl)
theorem dX2_stormyHours_44 : decode cX2_stormyHours 44 = .ok (.iload_n 1, 1) := dk_27 (dk_at dksX2_stormyHours_1 21 rfl rfl)
theorem dX2_stormyHours_45 : decode cX2_stormyHours 45 = .ok (.iload_n 2, 1) := dk_28 (dk_at dksX2_stormyHours_1 22 rfl rfl)
theorem dX2_stormyHours_46 : decode cX2_stormyHours 46 = .ok (.iload_n 3, 1) := dk_29 (dk_at dksX2_stormyHours_1 23 rfl rfl)
theorem dX2_stormyHours_47 : decode cX2_stormyHours 47 = .ok (.invokestatic 126, 3) := dk_184 0 126 (dk_at dksX2_stormyHours_2 0 rfl rfl)
theorem dX2_stormyHours_50 : decode cX2_stormyHours 50 = .ok (.aload_n 0, 1) := dk_42 (dk_at dksX2_stormyHours_2 3 rfl rfl)
theorem dX2_stormyHours_51 : decode cX2_stormyHours 51 = .ok (.getfield 9, 3) := dk_180 0 9 (dk_at dksX2_stormyHours_2 4 rfl rfl)
theorem dX2_stormyHours_54 : decode cX2_stormyHours 54 = .ok (.iconst 2, 1) := dk_5 (dk_at dksX2_stormyHours_2 7 rfl rfl)
theorem dX2_stormyHours_55 : decode cX2_stormyHours 55 = .ok (.iaload, 1) := dk_46 (dk_at dksX2_stormyHours_2 8 rfl rfl)
theorem dX2_stormyHours_56 : decode cX2_stormyHours 56 = .ok (.iload 6, 2) := dk_21 6 (dk_at dksX2_stormyHours_2 9 rfl rfl)
theorem dX2_stormyHours_58 : decode cX2_stormyHours 58 = .ok (.iadd, 1) := dk_96 (dk_at dksX2_stormyHours_2 11 rfl rfl)
theorem dX2_stormyHours_59 : decode cX2_stormyHours 59 = .ok (.invokevirtual 316, 3) := dk_182 1 60 (dk_at dksX2_stormyHours_2 12 rfl rfl)
theorem dX2_stormyHours_62 : decode cX2_stormyHours 62 = .ok (.invokestatic 260, 3) := dk_184 1 4 (dk_at dksX2_stormyHours_2 15 rfl rfl)
theorem dX2_stormyHours_65 : decode cX2_stormyHours 65 = .ok (.iadd, 1) := dk_96 (dk_at dksX2_stormyHours_2 18 rfl rfl)
theorem dX2_stormyHours_66 : decode cX2_stormyHours 66 = .ok (.istore 5, 2) := dk_54 5 (dk_at dksX2_stormyHours_2 19 rfl rfl)
theorem dX2_stormyHours_68 : decode cX2_stormyHours 68 = .ok (.iinc 6 1, 3) := dk_132 6 1 (dk_at dksX2_stormyHours_2 21 rfl rfl)
theorem dX2_stormyHours_71 : decode cX2_stormyHours 71 = .ok (.goto (-37), 3) := dk_167 255 219 (dk_at dksX2_stormyHours_3 0 rfl rfl)
theorem dX2_stormyHours_74 : decode cX2_stormyHours 74 = .ok (.iload 5, 2) := dk_21 5 (dk_at dksX2_stormyHours_3 3 rfl rfl)
theorem dX2_stormyHours_76 : decode cX2_stormyHours 76 = .ok (.ireturn, 1) := dk_172 (dk_at dksX2_stormyHours_3 5 rfl rfl)
abbrev cX2_isStormy : ByteArray := prog_12_method_77_code
def yX2_isStormy : MethodName := ⟨RX2, "isStormy", "(II)Z"⟩
def dkwX2_isStormy_1 : List UInt8 := [167, 255, 235, 3, 172]
abbrev dktX2_isStormy_1 : List UInt8 := dkwX2_isStormy_1 ++ []
def dkwX2_isStormy_0 : List UInt8 := [3, 62, 29, 16, 12, 162, 0, 21, 42, 27, 28, 29, 182, 0, 232, 153, 0, 5, 4, 172, 132, 3, 1]
abbrev dktX2_isStormy_0 : List UInt8 := dkwX2_isStormy_0 ++ dktX2_isStormy_1
theorem dksX2_isStormy_0 : cX2_isStormy.data.toList.drop 0 = dktX2_isStormy_0 := by decide +kernel
theorem dksX2_isStormy_1 : cX2_isStormy.data.toList.drop 23 = dktX2_isStormy_1 := dk_seg dksX2_isStormy_0 23 rfl rfl
theorem dX2_isStormy_0 : decode cX2_isStormy 0 = .ok (.iconst 0, 1) := dk_3 (dk_at dksX2_isStormy_0 0 rfl rfl)
theorem dX2_isStormy_1 : decode cX2_isStormy 1 = .ok (.istore_n 3, 1) := dk_62 (dk_at dksX2_isStormy_0 1 rfl rfl)
theorem dX2_isStormy_2 : decode cX2_isStormy 2 = .ok (.iload_n 3, 1) := dk_29 (dk_at dksX2_isStormy_0 2 rfl rfl)
theorem dX2_isStormy_3 : decode cX2_isStormy 3 = .ok (.bipush 12, 2) := dk_16 12 (dk_at dksX2_isStormy_0 3 rfl rfl)
theorem dX2_isStormy_5 : decode cX2_isStormy 5 = .ok (.if_icmp .ge 21, 3) := dk_162 0 21 (dk_at dksX2_isStormy_0 5 rfl rfl)
theorem dX2_isStormy_8 : decode cX2_isStormy 8 = .ok (.aload_n 0, 1) := dk_42 (dk_at dksX2_isStormy_0 8 rfl rfl)
theorem dX2_isStormy_9 : decode cX2_isStormy 9 = .ok (.iload_n 1, 1) := dk_27 (dk_at dksX2_isStormy_0 9 rfl rfl)
theorem dX2_isStormy_10 : decode cX2_isStormy 10 = .ok (.iload_n 2, 1) := dk_28 (dk_at dksX2_isStormy_0 10 rfl rfl)
theorem dX2_isStormy_11 : decode cX2_isStormy 11 = .ok (.iload_n 3, 1) := dk_29 (dk_at dksX2_isStormy_0 11 rfl rfl)
theorem dX2_isStormy_12 : decode cX2_isStormy 12 = .ok (.invokevirtual 232, 3) := dk_182 0 232 (dk_at dksX2_isStormy_0 12 rfl rfl)
theorem dX2_isStormy_15 : decode cX2_isStormy 15 = .ok (.ifCond .eq 5, 3) := dk_153 0 5 (dk_at dksX2_isStormy_0 15 rfl rfl)
theorem dX2_isStormy_18 : decode cX2_isStormy 18 = .ok (.iconst 1, 1) := dk_4 (dk_at dksX2_isStormy_0 18 rfl rfl)
theorem dX2_isStormy_19 : decode cX2_isStormy 19 = .ok (.ireturn, 1) := dk_172 (dk_at dksX2_isStormy_0 19 rfl rfl)
theorem dX2_isStormy_20 : decode cX2_isStormy 20 = .ok (.iinc 3 1, 3) := dk_132 3 1 (dk_at dksX2_isStormy_0 20 rfl rfl)
theorem dX2_isStormy_23 : decode cX2_isStormy 23 = .ok (.goto (-21), 3) := dk_167 255 235 (dk_at dksX2_isStormy_1 0 rfl rfl)
theorem dX2_isStormy_26 : decode cX2_isStormy 26 = .ok (.iconst 0, 1) := dk_3 (dk_at dksX2_isStormy_1 3 rfl rfl)
theorem dX2_isStormy_27 : decode cX2_isStormy 27 = .ok (.ireturn, 1) := dk_172 (dk_at dksX2_isStormy_1 4 rfl rfl)
abbrev cX2_stormyWires : ByteArray := prog_12_method_79_code
def yX2_stormyWires : MethodName := ⟨RX2, "stormyWires", "(II)I"⟩
def dkwX2_stormyWires_3 : List UInt8 := [132, 4, 1, 167, 255, 227, 29, 172]
abbrev dktX2_stormyWires_3 : List UInt8 := dkwX2_stormyWires_3 ++ []
def dkwX2_stormyWires_2 : List UInt8 := [16, 9, 42, 182, 1, 17, 104, 162, 0, 23, 29, 42, 21, 4, 27, 28, 182, 0, 232, 184, 1, 4, 96, 62]
abbrev dktX2_stormyWires_2 : List UInt8 := dkwX2_stormyWires_2 ++ dktX2_stormyWires_3
def dkwX2_stormyWires_1 : List UInt8 := [153, 0, 7, 4, 167, 0, 4, 3, 182, 1, 37, 154, 0, 5, 3, 172, 3, 62, 3, 54, 4, 21, 4]
abbrev dktX2_stormyWires_1 : List UInt8 := dkwX2_stormyWires_1 ++ dktX2_stormyWires_2
def dkwX2_stormyWires_0 : List UInt8 := [42, 42, 180, 0, 56, 27, 3, 17, 39, 15, 184, 0, 77, 153, 0, 17, 28, 3, 16, 11, 184, 0, 77]
abbrev dktX2_stormyWires_0 : List UInt8 := dkwX2_stormyWires_0 ++ dktX2_stormyWires_1
theorem dksX2_stormyWires_0 : cX2_stormyWires.data.toList.drop 0 = dktX2_stormyWires_0 := by decide +kernel
theorem dksX2_stormyWires_1 : cX2_stormyWires.data.toList.drop 23 = dktX2_stormyWires_1 := dk_seg dksX2_stormyWires_0 23 rfl rfl
theorem dksX2_stormyWires_2 : cX2_stormyWires.data.toList.drop 46 = dktX2_stormyWires_2 := dk_seg dksX2_stormyWires_1 23 rfl rfl
theorem dksX2_stormyWires_3 : cX2_stormyWires.data.toList.drop 70 = dktX2_stormyWires_3 := dk_seg dksX2_stormyWires_2 24 rfl rfl
theorem dX2_stormyWires_0 : decode cX2_stormyWires 0 = .ok (.aload_n 0, 1) := dk_42 (dk_at dksX2_stormyWires_0 0 rfl rfl)
theorem dX2_stormyWires_1 : decode cX2_stormyWires 1 = .ok (.aload_n 0, 1) := dk_42 (dk_at dksX2_stormyWires_0 1 rfl rfl)
theorem dX2_stormyWires_2 : decode cX2_stormyWires 2 = .ok (.getfield 56, 3) := dk_180 0 56 (dk_at dksX2_stormyWires_0 2 rfl rfl)
theorem dX2_stormyWires_5 : decode cX2_stormyWires 5 = .ok (.iload_n 1, 1) := dk_27 (dk_at dksX2_stormyWires_0 5 rfl rfl)
theorem dX2_stormyWires_6 : decode cX2_stormyWires 6 = .ok (.iconst 0, 1) := dk_3 (dk_at dksX2_stormyWires_0 6 rfl rfl)
theorem dX2_stormyWires_7 : decode cX2_stormyWires 7 = .ok (.sipush 9999, 3) := dk_17 39 15 (dk_at dksX2_stormyWires_0 7 rfl rfl)
theorem dX2_stormyWires_10 : decode cX2_stormyWires 10 = .ok (.invokestatic 77, 3) := dk_184 0 77 (dk_at dksX2_stormyWires_0 10 rfl rfl)
theorem dX2_stormyWires_13 : decode cX2_stormyWires 13 = .ok (.ifCond .eq 17, 3) := dk_153 0 17 (dk_at dksX2_stormyWires_0 13 rfl rfl)
theorem dX2_stormyWires_16 : decode cX2_stormyWires 16 = .ok (.iload_n 2, 1) := dk_28 (dk_at dksX2_stormyWires_0 16 rfl rfl)
theorem dX2_stormyWires_17 : decode cX2_stormyWires 17 = .ok (.iconst 0, 1) := dk_3 (dk_at dksX2_stormyWires_0 17 rfl rfl)
theorem dX2_stormyWires_18 : decode cX2_stormyWires 18 = .ok (.bipush 11, 2) := dk_16 11 (dk_at dksX2_stormyWires_0 18 rfl rfl)
theorem dX2_stormyWires_20 : decode cX2_stormyWires 20 = .ok (.invokestatic 77, 3) := dk_184 0 77 (dk_at dksX2_stormyWires_0 20 rfl rfl)
theorem dX2_stormyWires_23 : decode cX2_stormyWires 23 = .ok (.ifCond .eq 7, 3) := dk_153 0 7 (dk_at dksX2_stormyWires_1 0 rfl rfl)
theorem dX2_stormyWires_26 : decode cX2_stormyWires 26 = .ok (.iconst 1, 1) := dk_4 (dk_at dksX2_stormyWires_1 3 rfl rfl)
theorem dX2_stormyWires_27 : decode cX2_stormyWires 27 = .ok (.goto 4, 3) := dk_167 0 4 (dk_at dksX2_stormyWires_1 4 rfl rfl)
theorem dX2_stormyWires_30 : decode cX2_stormyWires 30 = .ok (.iconst 0, 1) := dk_3 (dk_at dksX2_stormyWires_1 7 rfl rfl)
theorem dX2_stormyWires_31 : decode cX2_stormyWires 31 = .ok (.invokevirtual 293, 3) := dk_182 1 37 (dk_at dksX2_stormyWires_1 8 rfl rfl)
theorem dX2_stormyWires_34 : decode cX2_stormyWires 34 = .ok (.ifCond .ne 5, 3) := dk_154 0 5 (dk_at dksX2_stormyWires_1 11 rfl rfl)
theorem dX2_stormyWires_37 : decode cX2_stormyWires 37 = .ok (.iconst 0, 1) := dk_3 (dk_at dksX2_stormyWires_1 14 rfl rfl)
theorem dX2_stormyWires_38 : decode cX2_stormyWires 38 = .ok (.ireturn, 1) := dk_172 (dk_at dksX2_stormyWires_1 15 rfl rfl)
theorem dX2_stormyWires_39 : decode cX2_stormyWires 39 = .ok (.iconst 0, 1) := dk_3 (dk_at dksX2_stormyWires_1 16 rfl rfl)
theorem dX2_stormyWires_40 : decode cX2_stormyWires 40 = .ok (.istore_n 3, 1) := dk_62 (dk_at dksX2_stormyWires_1 17 rfl rfl)
theorem dX2_stormyWires_41 : decode cX2_stormyWires 41 = .ok (.iconst 0, 1) := dk_3 (dk_at dksX2_stormyWires_1 18 rfl rfl)
theorem dX2_stormyWires_42 : decode cX2_stormyWires 42 = .ok (.istore 4, 2) := dk_54 4 (dk_at dksX2_stormyWires_1 19 rfl rfl)
theorem dX2_stormyWires_44 : decode cX2_stormyWires 44 = .ok (.iload 4, 2) := dk_21 4 (dk_at dksX2_stormyWires_1 21 rfl rfl)
theorem dX2_stormyWires_46 : decode cX2_stormyWires 46 = .ok (.bipush 9, 2) := dk_16 9 (dk_at dksX2_stormyWires_2 0 rfl rfl)
theorem dX2_stormyWires_48 : decode cX2_stormyWires 48 = .ok (.aload_n 0, 1) := dk_42 (dk_at dksX2_stormyWires_2 2 rfl rfl)
theorem dX2_stormyWires_49 : decode cX2_stormyWires 49 = .ok (.invokevirtual 273, 3) := dk_182 1 17 (dk_at dksX2_stormyWires_2 3 rfl rfl)
theorem dX2_stormyWires_52 : decode cX2_stormyWires 52 = .ok (.imul, 1) := dk_104 (dk_at dksX2_stormyWires_2 6 rfl rfl)
theorem dX2_stormyWires_53 : decode cX2_stormyWires 53 = .ok (.if_icmp .ge 23, 3) := dk_162 0 23 (dk_at dksX2_stormyWires_2 7 rfl rfl)
theorem dX2_stormyWires_56 : decode cX2_stormyWires 56 = .ok (.iload_n 3, 1) := dk_29 (dk_at dksX2_stormyWires_2 10 rfl rfl)
theorem dX2_stormyWires_57 : decode cX2_stormyWires 57 = .ok (.aload_n 0, 1) := dk_42 (dk_at dksX2_stormyWires_2 11 rfl rfl)
theorem dX2_stormyWires_58 : decode cX2_stormyWires 58 = .ok (.iload 4, 2) := dk_21 4 (dk_at dksX2_stormyWires_2 12 rfl rfl)
theorem dX2_stormyWires_60 : decode cX2_stormyWires 60 = .ok (.iload_n 1, 1) := dk_27 (dk_at dksX2_stormyWires_2 14 rfl rfl)
theorem dX2_stormyWires_61 : decode cX2_stormyWires 61 = .ok (.iload_n 2, 1) := dk_28 (dk_at dksX2_stormyWires_2 15 rfl rfl)
theorem dX2_stormyWires_62 : decode cX2_stormyWires 62 = .ok (.invokevirtual 232, 3) := dk_182 0 232 (dk_at dksX2_stormyWires_2 16 rfl rfl)
theorem dX2_stormyWires_65 : decode cX2_stormyWires 65 = .ok (.invokestatic 260, 3) := dk_184 1 4 (dk_at dksX2_stormyWires_2 19 rfl rfl)
theorem dX2_stormyWires_68 : decode cX2_stormyWires 68 = .ok (.iadd, 1) := dk_96 (dk_at dksX2_stormyWires_2 22 rfl rfl)
theorem dX2_stormyWires_69 : decode cX2_stormyWires 69 = .ok (.istore_n 3, 1) := dk_62 (dk_at dksX2_stormyWires_2 23 rfl rfl)
theorem dX2_stormyWires_70 : decode cX2_stormyWires 70 = .ok (.iinc 4 1, 3) := dk_132 4 1 (dk_at dksX2_stormyWires_3 0 rfl rfl)
theorem dX2_stormyWires_73 : decode cX2_stormyWires 73 = .ok (.goto (-29), 3) := dk_167 255 227 (dk_at dksX2_stormyWires_3 3 rfl rfl)
theorem dX2_stormyWires_76 : decode cX2_stormyWires 76 = .ok (.iload_n 3, 1) := dk_29 (dk_at dksX2_stormyWires_3 6 rfl rfl)
theorem dX2_stormyWires_77 : decode cX2_stormyWires 77 = .ok (.ireturn, 1) := dk_172 (dk_at dksX2_stormyWires_3 7 rfl rfl)
abbrev cX2_calmest : ByteArray := prog_12_method_81_code
def yX2_calmest : MethodName := ⟨RX2, "calmest", "(I)I"⟩
def dkwX2_calmest_3 : List UInt8 := [167, 0, 9, 21, 5, 62, 21, 4, 61, 132, 4, 1, 167, 255, 217, 28, 172]
abbrev dktX2_calmest_3 : List UInt8 := dkwX2_calmest_3 ++ []
def dkwX2_calmest_2 : List UInt8 := [180, 0, 9, 5, 46, 27, 96, 162, 0, 32, 42, 21, 4, 182, 1, 64, 54, 5, 21, 5, 29, 161, 0, 6]
abbrev dktX2_calmest_2 : List UInt8 := dkwX2_calmest_2 ++ dktX2_calmest_3
def dkwX2_calmest_1 : List UInt8 := [5, 46, 61, 42, 28, 182, 1, 64, 62, 42, 180, 0, 9, 5, 46, 4, 96, 54, 4, 21, 4, 42]
abbrev dktX2_calmest_1 : List UInt8 := dkwX2_calmest_1 ++ dktX2_calmest_2
def dkwX2_calmest_0 : List UInt8 := [42, 42, 180, 0, 56, 27, 4, 16, 100, 184, 0, 77, 182, 1, 37, 154, 0, 5, 3, 172, 42, 180, 0, 9]
abbrev dktX2_calmest_0 : List UInt8 := dkwX2_calmest_0 ++ dktX2_calmest_1
theorem dksX2_calmest_0 : cX2_calmest.data.toList.drop 0 = dktX2_calmest_0 := by decide +kernel
theorem dksX2_calmest_1 : cX2_calmest.data.toList.drop 24 = dktX2_calmest_1 := dk_seg dksX2_calmest_0 24 rfl rfl
theorem dksX2_calmest_2 : cX2_calmest.data.toList.drop 46 = dktX2_calmest_2 := dk_seg dksX2_calmest_1 22 rfl rfl
theorem dksX2_calmest_3 : cX2_calmest.data.toList.drop 70 = dktX2_calmest_3 := dk_seg dksX2_calmest_2 24 rfl rfl
theorem dX2_calmest_0 : decode cX2_calmest 0 = .ok (.aload_n 0, 1) := dk_42 (dk_at dksX2_calmest_0 0 rfl rfl)
theorem dX2_calmest_1 : decode cX2_calmest 1 = .ok (.aload_n 0, 1) := dk_42 (dk_at dksX2_calmest_0 1 rfl rfl)
theorem dX2_calmest_2 : decode cX2_calmest 2 = .ok (.getfield 56, 3) := dk_180 0 56 (dk_at dksX2_calmest_0 2 rfl rfl)
theorem dX2_calmest_5 : decode cX2_calmest 5 = .ok (.iload_n 1, 1) := dk_27 (dk_at dksX2_calmest_0 5 rfl rfl)
theorem dX2_calmest_6 : decode cX2_calmest 6 = .ok (.iconst 1, 1) := dk_4 (dk_at dksX2_calmest_0 6 rfl rfl)
theorem dX2_calmest_7 : decode cX2_calmest 7 = .ok (.bipush 100, 2) := dk_16 100 (dk_at dksX2_calmest_0 7 rfl rfl)
theorem dX2_calmest_9 : decode cX2_calmest 9 = .ok (.invokestatic 77, 3) := dk_184 0 77 (dk_at dksX2_calmest_0 9 rfl rfl)
theorem dX2_calmest_12 : decode cX2_calmest 12 = .ok (.invokevirtual 293, 3) := dk_182 1 37 (dk_at dksX2_calmest_0 12 rfl rfl)
theorem dX2_calmest_15 : decode cX2_calmest 15 = .ok (.ifCond .ne 5, 3) := dk_154 0 5 (dk_at dksX2_calmest_0 15 rfl rfl)
theorem dX2_calmest_18 : decode cX2_calmest 18 = .ok (.iconst 0, 1) := dk_3 (dk_at dksX2_calmest_0 18 rfl rfl)
theorem dX2_calmest_19 : decode cX2_calmest 19 = .ok (.ireturn, 1) := dk_172 (dk_at dksX2_calmest_0 19 rfl rfl)
theorem dX2_calmest_20 : decode cX2_calmest 20 = .ok (.aload_n 0, 1) := dk_42 (dk_at dksX2_calmest_0 20 rfl rfl)
theorem dX2_calmest_21 : decode cX2_calmest 21 = .ok (.getfield 9, 3) := dk_180 0 9 (dk_at dksX2_calmest_0 21 rfl rfl)
theorem dX2_calmest_24 : decode cX2_calmest 24 = .ok (.iconst 2, 1) := dk_5 (dk_at dksX2_calmest_1 0 rfl rfl)
theorem dX2_calmest_25 : decode cX2_calmest 25 = .ok (.iaload, 1) := dk_46 (dk_at dksX2_calmest_1 1 rfl rfl)
theorem dX2_calmest_26 : decode cX2_calmest 26 = .ok (.istore_n 2, 1) := dk_61 (dk_at dksX2_calmest_1 2 rfl rfl)
theorem dX2_calmest_27 : decode cX2_calmest 27 = .ok (.aload_n 0, 1) := dk_42 (dk_at dksX2_calmest_1 3 rfl rfl)
theorem dX2_calmest_28 : decode cX2_calmest 28 = .ok (.iload_n 2, 1) := dk_28 (dk_at dksX2_calmest_1 4 rfl rfl)
theorem dX2_calmest_29 : decode cX2_calmest 29 = .ok (.invokevirtual 320, 3) := dk_182 1 64 (dk_at dksX2_calmest_1 5 rfl rfl)
theorem dX2_calmest_32 : decode cX2_calmest 32 = .ok (.istore_n 3, 1) := dk_62 (dk_at dksX2_calmest_1 8 rfl rfl)
theorem dX2_calmest_33 : decode cX2_calmest 33 = .ok (.aload_n 0, 1) := dk_42 (dk_at dksX2_calmest_1 9 rfl rfl)
theorem dX2_calmest_34 : decode cX2_calmest 34 = .ok (.getfield 9, 3) := dk_180 0 9 (dk_at dksX2_calmest_1 10 rfl rfl)
theorem dX2_calmest_37 : decode cX2_calmest 37 = .ok (.iconst 2, 1) := dk_5 (dk_at dksX2_calmest_1 13 rfl rfl)
theorem dX2_calmest_38 : decode cX2_calmest 38 = .ok (.iaload, 1) := dk_46 (dk_at dksX2_calmest_1 14 rfl rfl)
theorem dX2_calmest_39 : decode cX2_calmest 39 = .ok (.iconst 1, 1) := dk_4 (dk_at dksX2_calmest_1 15 rfl rfl)
theorem dX2_calmest_40 : decode cX2_calmest 40 = .ok (.iadd, 1) := dk_96 (dk_at dksX2_calmest_1 16 rfl rfl)
theorem dX2_calmest_41 : decode cX2_calmest 41 = .ok (.istore 4, 2) := dk_54 4 (dk_at dksX2_calmest_1 17 rfl rfl)
theorem dX2_calmest_43 : decode cX2_calmest 43 = .ok (.iload 4, 2) := dk_21 4 (dk_at dksX2_calmest_1 19 rfl rfl)
theorem dX2_calmest_45 : decode cX2_calmest 45 = .ok (.aload_n 0, 1) := dk_42 (dk_at dksX2_calmest_1 21 rfl rfl)
theorem dX2_calmest_46 : decode cX2_calmest 46 = .ok (.getfield 9, 3) := dk_180 0 9 (dk_at dksX2_calmest_2 0 rfl rfl)
theorem dX2_calmest_49 : decode cX2_calmest 49 = .ok (.iconst 2, 1) := dk_5 (dk_at dksX2_calmest_2 3 rfl rfl)
theorem dX2_calmest_50 : decode cX2_calmest 50 = .ok (.iaload, 1) := dk_46 (dk_at dksX2_calmest_2 4 rfl rfl)
theorem dX2_calmest_51 : decode cX2_calmest 51 = .ok (.iload_n 1, 1) := dk_27 (dk_at dksX2_calmest_2 5 rfl rfl)
theorem dX2_calmest_52 : decode cX2_calmest 52 = .ok (.iadd, 1) := dk_96 (dk_at dksX2_calmest_2 6 rfl rfl)
theorem dX2_calmest_53 : decode cX2_calmest 53 = .ok (.if_icmp .ge 32, 3) := dk_162 0 32 (dk_at dksX2_calmest_2 7 rfl rfl)
theorem dX2_calmest_56 : decode cX2_calmest 56 = .ok (.aload_n 0, 1) := dk_42 (dk_at dksX2_calmest_2 10 rfl rfl)
theorem dX2_calmest_57 : decode cX2_calmest 57 = .ok (.iload 4, 2) := dk_21 4 (dk_at dksX2_calmest_2 11 rfl rfl)
theorem dX2_calmest_59 : decode cX2_calmest 59 = .ok (.invokevirtual 320, 3) := dk_182 1 64 (dk_at dksX2_calmest_2 13 rfl rfl)
theorem dX2_calmest_62 : decode cX2_calmest 62 = .ok (.istore 5, 2) := dk_54 5 (dk_at dksX2_calmest_2 16 rfl rfl)
theorem dX2_calmest_64 : decode cX2_calmest 64 = .ok (.iload 5, 2) := dk_21 5 (dk_at dksX2_calmest_2 18 rfl rfl)
theorem dX2_calmest_66 : decode cX2_calmest 66 = .ok (.iload_n 3, 1) := dk_29 (dk_at dksX2_calmest_2 20 rfl rfl)
theorem dX2_calmest_67 : decode cX2_calmest 67 = .ok (.if_icmp .lt 6, 3) := dk_161 0 6 (dk_at dksX2_calmest_2 21 rfl rfl)
theorem dX2_calmest_70 : decode cX2_calmest 70 = .ok (.goto 9, 3) := dk_167 0 9 (dk_at dksX2_calmest_3 0 rfl rfl)
theorem dX2_calmest_73 : decode cX2_calmest 73 = .ok (.iload 5, 2) := dk_21 5 (dk_at dksX2_calmest_3 3 rfl rfl)
theorem dX2_calmest_75 : decode cX2_calmest 75 = .ok (.istore_n 3, 1) := dk_62 (dk_at dksX2_calmest_3 5 rfl rfl)
theorem dX2_calmest_76 : decode cX2_calmest 76 = .ok (.iload 4, 2) := dk_21 4 (dk_at dksX2_calmest_3 6 rfl rfl)
theorem dX2_calmest_78 : decode cX2_calmest 78 = .ok (.istore_n 2, 1) := dk_61 (dk_at dksX2_calmest_3 8 rfl rfl)
theorem dX2_calmest_79 : decode cX2_calmest 79 = .ok (.iinc 4 1, 3) := dk_132 4 1 (dk_at dksX2_calmest_3 9 rfl rfl)
theorem dX2_calmest_82 : decode cX2_calmest 82 = .ok (.goto (-39), 3) := dk_167 255 217 (dk_at dksX2_calmest_3 12 rfl rfl)
theorem dX2_calmest_85 : decode cX2_calmest 85 = .ok (.iload_n 2, 1) := dk_28 (dk_at dksX2_calmest_3 15 rfl rfl)
theorem dX2_calmest_86 : decode cX2_calmest 86 = .ok (.ireturn, 1) := dk_172 (dk_at dksX2_calmest_3 16 rfl rfl)
abbrev cX2_garbledIn : ByteArray := prog_12_method_80_code
def yX2_garbledIn : MethodName := ⟨RX2, "garbledIn", "(I)I"⟩
def dkwX2_garbledIn_2 : List UInt8 := [132, 3, 1, 167, 255, 212, 28, 172]
abbrev dktX2_garbledIn_2 : List UInt8 := dkwX2_garbledIn_2 ++ []
def dkwX2_garbledIn_1 : List UInt8 := [162, 0, 23, 28, 42, 29, 27, 21, 4, 182, 0, 232, 184, 1, 4, 96, 61, 132, 4, 1, 167, 255, 232]
abbrev dktX2_garbledIn_1 : List UInt8 := dkwX2_garbledIn_1 ++ dktX2_garbledIn_2
def dkwX2_garbledIn_0 : List UInt8 := [3, 61, 3, 62, 29, 16, 9, 42, 182, 1, 17, 104, 162, 0, 39, 3, 54, 4, 21, 4, 16, 12]
abbrev dktX2_garbledIn_0 : List UInt8 := dkwX2_garbledIn_0 ++ dktX2_garbledIn_1
theorem dksX2_garbledIn_0 : cX2_garbledIn.data.toList.drop 0 = dktX2_garbledIn_0 := by decide +kernel
theorem dksX2_garbledIn_1 : cX2_garbledIn.data.toList.drop 22 = dktX2_garbledIn_1 := dk_seg dksX2_garbledIn_0 22 rfl rfl
theorem dksX2_garbledIn_2 : cX2_garbledIn.data.toList.drop 45 = dktX2_garbledIn_2 := dk_seg dksX2_garbledIn_1 23 rfl rfl
theorem dX2_garbledIn_0 : decode cX2_garbledIn 0 = .ok (.iconst 0, 1) := dk_3 (dk_at dksX2_garbledIn_0 0 rfl rfl)
theorem dX2_garbledIn_1 : decode cX2_garbledIn 1 = .ok (.istore_n 2, 1) := dk_61 (dk_at dksX2_garbledIn_0 1 rfl rfl)
theorem dX2_garbledIn_2 : decode cX2_garbledIn 2 = .ok (.iconst 0, 1) := dk_3 (dk_at dksX2_garbledIn_0 2 rfl rfl)
theorem dX2_garbledIn_3 : decode cX2_garbledIn 3 = .ok (.istore_n 3, 1) := dk_62 (dk_at dksX2_garbledIn_0 3 rfl rfl)
theorem dX2_garbledIn_4 : decode cX2_garbledIn 4 = .ok (.iload_n 3, 1) := dk_29 (dk_at dksX2_garbledIn_0 4 rfl rfl)
theorem dX2_garbledIn_5 : decode cX2_garbledIn 5 = .ok (.bipush 9, 2) := dk_16 9 (dk_at dksX2_garbledIn_0 5 rfl rfl)
theorem dX2_garbledIn_7 : decode cX2_garbledIn 7 = .ok (.aload_n 0, 1) := dk_42 (dk_at dksX2_garbledIn_0 7 rfl rfl)
theorem dX2_garbledIn_8 : decode cX2_garbledIn 8 = .ok (.invokevirtual 273, 3) := dk_182 1 17 (dk_at dksX2_garbledIn_0 8 rfl rfl)
theorem dX2_garbledIn_11 : decode cX2_garbledIn 11 = .ok (.imul, 1) := dk_104 (dk_at dksX2_garbledIn_0 11 rfl rfl)
theorem dX2_garbledIn_12 : decode cX2_garbledIn 12 = .ok (.if_icmp .ge 39, 3) := dk_162 0 39 (dk_at dksX2_garbledIn_0 12 rfl rfl)
theorem dX2_garbledIn_15 : decode cX2_garbledIn 15 = .ok (.iconst 0, 1) := dk_3 (dk_at dksX2_garbledIn_0 15 rfl rfl)
theorem dX2_garbledIn_16 : decode cX2_garbledIn 16 = .ok (.istore 4, 2) := dk_54 4 (dk_at dksX2_garbledIn_0 16 rfl rfl)
theorem dX2_garbledIn_18 : decode cX2_garbledIn 18 = .ok (.iload 4, 2) := dk_21 4 (dk_at dksX2_garbledIn_0 18 rfl rfl)
theorem dX2_garbledIn_20 : decode cX2_garbledIn 20 = .ok (.bipush 12, 2) := dk_16 12 (dk_at dksX2_garbledIn_0 20 rfl rfl)
theorem dX2_garbledIn_22 : decode cX2_garbledIn 22 = .ok (.if_icmp .ge 23, 3) := dk_162 0 23 (dk_at dksX2_garbledIn_1 0 rfl rfl)
theorem dX2_garbledIn_25 : decode cX2_garbledIn 25 = .ok (.iload_n 2, 1) := dk_28 (dk_at dksX2_garbledIn_1 3 rfl rfl)
theorem dX2_garbledIn_26 : decode cX2_garbledIn 26 = .ok (.aload_n 0, 1) := dk_42 (dk_at dksX2_garbledIn_1 4 rfl rfl)
theorem dX2_garbledIn_27 : decode cX2_garbledIn 27 = .ok (.iload_n 3, 1) := dk_29 (dk_at dksX2_garbledIn_1 5 rfl rfl)
theorem dX2_garbledIn_28 : decode cX2_garbledIn 28 = .ok (.iload_n 1, 1) := dk_27 (dk_at dksX2_garbledIn_1 6 rfl rfl)
theorem dX2_garbledIn_29 : decode cX2_garbledIn 29 = .ok (.iload 4, 2) := dk_21 4 (dk_at dksX2_garbledIn_1 7 rfl rfl)
theorem dX2_garbledIn_31 : decode cX2_garbledIn 31 = .ok (.invokevirtual 232, 3) := dk_182 0 232 (dk_at dksX2_garbledIn_1 9 rfl rfl)
theorem dX2_garbledIn_34 : decode cX2_garbledIn 34 = .ok (.invokestatic 260, 3) := dk_184 1 4 (dk_at dksX2_garbledIn_1 12 rfl rfl)
theorem dX2_garbledIn_37 : decode cX2_garbledIn 37 = .ok (.iadd, 1) := dk_96 (dk_at dksX2_garbledIn_1 15 rfl rfl)
theorem dX2_garbledIn_38 : decode cX2_garbledIn 38 = .ok (.istore_n 2, 1) := dk_61 (dk_at dksX2_garbledIn_1 16 rfl rfl)
theorem dX2_garbledIn_39 : decode cX2_garbledIn 39 = .ok (.iinc 4 1, 3) := dk_132 4 1 (dk_at dksX2_garbledIn_1 17 rfl rfl)
theorem dX2_garbledIn_42 : decode cX2_garbledIn 42 = .ok (.goto (-24), 3) := dk_167 255 232 (dk_at dksX2_garbledIn_1 20 rfl rfl)
theorem dX2_garbledIn_45 : decode cX2_garbledIn 45 = .ok (.iinc 3 1, 3) := dk_132 3 1 (dk_at dksX2_garbledIn_2 0 rfl rfl)
theorem dX2_garbledIn_48 : decode cX2_garbledIn 48 = .ok (.goto (-44), 3) := dk_167 255 212 (dk_at dksX2_garbledIn_2 3 rfl rfl)
theorem dX2_garbledIn_51 : decode cX2_garbledIn 51 = .ok (.iload_n 2, 1) := dk_28 (dk_at dksX2_garbledIn_2 6 rfl rfl)
theorem dX2_garbledIn_52 : decode cX2_garbledIn 52 = .ok (.ireturn, 1) := dk_172 (dk_at dksX2_garbledIn_2 7 rfl rfl)
abbrev cX2_message : ByteArray := prog_12_method_86_code
def yX2_message : MethodName := ⟨RX2, "message", "(II)I"⟩
def dkwX2_message_4 : List UInt8 := [182, 1, 11, 100, 42, 27, 182, 1, 73, 100, 172, 42, 27, 28, 182, 0, 238, 172]
abbrev dktX2_message_4 : List UInt8 := dkwX2_message_4 ++ []
def dkwX2_message_3 : List UInt8 := [42, 27, 182, 1, 11, 172, 42, 27, 182, 1, 73, 172, 6, 42, 27, 3, 182, 0, 238, 104, 42, 27]
abbrev dktX2_message_3 : List UInt8 := dkwX2_message_3 ++ dktX2_message_4
def dkwX2_message_2 : List UInt8 := [170, 0, 0, 0, 0, 59, 0, 0, 0, 5, 0, 0, 0, 7, 0, 0, 0, 26, 0, 0, 0, 32, 0, 0, 0, 38]
abbrev dktX2_message_2 : List UInt8 := dkwX2_message_2 ++ dktX2_message_3
def dkwX2_message_1 : List UInt8 := [172, 28]
abbrev dktX2_message_1 : List UInt8 := dkwX2_message_1 ++ dktX2_message_2
def dkwX2_message_0 : List UInt8 := [42, 42, 180, 0, 56, 42, 27, 182, 1, 47, 28, 3, 16, 7, 184, 0, 77, 182, 0, 52, 154, 0, 5, 3]
abbrev dktX2_message_0 : List UInt8 := dkwX2_message_0 ++ dktX2_message_1
theorem dksX2_message_0 : cX2_message.data.toList.drop 0 = dktX2_message_0 := by decide +kernel
theorem dksX2_message_1 : cX2_message.data.toList.drop 24 = dktX2_message_1 := dk_seg dksX2_message_0 24 rfl rfl
theorem dksX2_message_2 : cX2_message.data.toList.drop 26 = dktX2_message_2 := dk_seg dksX2_message_1 2 rfl rfl
theorem dksX2_message_3 : cX2_message.data.toList.drop 52 = dktX2_message_3 := dk_seg dksX2_message_2 26 rfl rfl
theorem dksX2_message_4 : cX2_message.data.toList.drop 74 = dktX2_message_4 := dk_seg dksX2_message_3 22 rfl rfl
theorem dX2_message_0 : decode cX2_message 0 = .ok (.aload_n 0, 1) := dk_42 (dk_at dksX2_message_0 0 rfl rfl)
theorem dX2_message_1 : decode cX2_message 1 = .ok (.aload_n 0, 1) := dk_42 (dk_at dksX2_message_0 1 rfl rfl)
theorem dX2_message_2 : decode cX2_message 2 = .ok (.getfield 56, 3) := dk_180 0 56 (dk_at dksX2_message_0 2 rfl rfl)
theorem dX2_message_5 : decode cX2_message 5 = .ok (.aload_n 0, 1) := dk_42 (dk_at dksX2_message_0 5 rfl rfl)
theorem dX2_message_6 : decode cX2_message 6 = .ok (.iload_n 1, 1) := dk_27 (dk_at dksX2_message_0 6 rfl rfl)
theorem dX2_message_7 : decode cX2_message 7 = .ok (.invokevirtual 303, 3) := dk_182 1 47 (dk_at dksX2_message_0 7 rfl rfl)
theorem dX2_message_10 : decode cX2_message 10 = .ok (.iload_n 2, 1) := dk_28 (dk_at dksX2_message_0 10 rfl rfl)
theorem dX2_message_11 : decode cX2_message 11 = .ok (.iconst 0, 1) := dk_3 (dk_at dksX2_message_0 11 rfl rfl)
theorem dX2_message_12 : decode cX2_message 12 = .ok (.bipush 7, 2) := dk_16 7 (dk_at dksX2_message_0 12 rfl rfl)
theorem dX2_message_14 : decode cX2_message 14 = .ok (.invokestatic 77, 3) := dk_184 0 77 (dk_at dksX2_message_0 14 rfl rfl)
theorem dX2_message_17 : decode cX2_message 17 = .ok (.invokevirtual 52, 3) := dk_182 0 52 (dk_at dksX2_message_0 17 rfl rfl)
theorem dX2_message_20 : decode cX2_message 20 = .ok (.ifCond .ne 5, 3) := dk_154 0 5 (dk_at dksX2_message_0 20 rfl rfl)
theorem dX2_message_23 : decode cX2_message 23 = .ok (.iconst 0, 1) := dk_3 (dk_at dksX2_message_0 23 rfl rfl)
theorem dX2_message_24 : decode cX2_message 24 = .ok (.ireturn, 1) := dk_172 (dk_at dksX2_message_1 0 rfl rfl)
theorem dX2_message_25 : decode cX2_message 25 = .ok (.iload_n 2, 1) := dk_28 (dk_at dksX2_message_1 1 rfl rfl)
theorem dX2_message_26 : decode cX2_message 26 = .ok (.tableswitch 59 5 7 #[26, 32, 38], 26) := by decide +kernel
theorem dX2_message_52 : decode cX2_message 52 = .ok (.aload_n 0, 1) := dk_42 (dk_at dksX2_message_3 0 rfl rfl)
theorem dX2_message_53 : decode cX2_message 53 = .ok (.iload_n 1, 1) := dk_27 (dk_at dksX2_message_3 1 rfl rfl)
theorem dX2_message_54 : decode cX2_message 54 = .ok (.invokevirtual 267, 3) := dk_182 1 11 (dk_at dksX2_message_3 2 rfl rfl)
theorem dX2_message_57 : decode cX2_message 57 = .ok (.ireturn, 1) := dk_172 (dk_at dksX2_message_3 5 rfl rfl)
theorem dX2_message_58 : decode cX2_message 58 = .ok (.aload_n 0, 1) := dk_42 (dk_at dksX2_message_3 6 rfl rfl)
theorem dX2_message_59 : decode cX2_message 59 = .ok (.iload_n 1, 1) := dk_27 (dk_at dksX2_message_3 7 rfl rfl)
theorem dX2_message_60 : decode cX2_message 60 = .ok (.invokevirtual 329, 3) := dk_182 1 73 (dk_at dksX2_message_3 8 rfl rfl)
theorem dX2_message_63 : decode cX2_message 63 = .ok (.ireturn, 1) := dk_172 (dk_at dksX2_message_3 11 rfl rfl)
theorem dX2_message_64 : decode cX2_message 64 = .ok (.iconst 3, 1) := dk_6 (dk_at dksX2_message_3 12 rfl rfl)
theorem dX2_message_65 : decode cX2_message 65 = .ok (.aload_n 0, 1) := dk_42 (dk_at dksX2_message_3 13 rfl rfl)
theorem dX2_message_66 : decode cX2_message 66 = .ok (.iload_n 1, 1) := dk_27 (dk_at dksX2_message_3 14 rfl rfl)
theorem dX2_message_67 : decode cX2_message 67 = .ok (.iconst 0, 1) := dk_3 (dk_at dksX2_message_3 15 rfl rfl)
theorem dX2_message_68 : decode cX2_message 68 = .ok (.invokevirtual 238, 3) := dk_182 0 238 (dk_at dksX2_message_3 16 rfl rfl)
theorem dX2_message_71 : decode cX2_message 71 = .ok (.imul, 1) := dk_104 (dk_at dksX2_message_3 19 rfl rfl)
theorem dX2_message_72 : decode cX2_message 72 = .ok (.aload_n 0, 1) := dk_42 (dk_at dksX2_message_3 20 rfl rfl)
theorem dX2_message_73 : decode cX2_message 73 = .ok (.iload_n 1, 1) := dk_27 (dk_at dksX2_message_3 21 rfl rfl)
theorem dX2_message_74 : decode cX2_message 74 = .ok (.invokevirtual 267, 3) := dk_182 1 11 (dk_at dksX2_message_4 0 rfl rfl)
theorem dX2_message_77 : decode cX2_message 77 = .ok (.isub, 1) := dk_100 (dk_at dksX2_message_4 3 rfl rfl)
theorem dX2_message_78 : decode cX2_message 78 = .ok (.aload_n 0, 1) := dk_42 (dk_at dksX2_message_4 4 rfl rfl)
theorem dX2_message_79 : decode cX2_message 79 = .ok (.iload_n 1, 1) := dk_27 (dk_at dksX2_message_4 5 rfl rfl)
theorem dX2_message_80 : decode cX2_message 80 = .ok (.invokevirtual 329, 3) := dk_182 1 73 (dk_at dksX2_message_4 6 rfl rfl)
theorem dX2_message_83 : decode cX2_message 83 = .ok (.isub, 1) := dk_100 (dk_at dksX2_message_4 9 rfl rfl)
theorem dX2_message_84 : decode cX2_message 84 = .ok (.ireturn, 1) := dk_172 (dk_at dksX2_message_4 10 rfl rfl)
theorem dX2_message_85 : decode cX2_message 85 = .ok (.aload_n 0, 1) := dk_42 (dk_at dksX2_message_4 11 rfl rfl)
theorem dX2_message_86 : decode cX2_message 86 = .ok (.iload_n 1, 1) := dk_27 (dk_at dksX2_message_4 12 rfl rfl)
theorem dX2_message_87 : decode cX2_message 87 = .ok (.iload_n 2, 1) := dk_28 (dk_at dksX2_message_4 13 rfl rfl)
theorem dX2_message_88 : decode cX2_message 88 = .ok (.invokevirtual 238, 3) := dk_182 0 238 (dk_at dksX2_message_4 14 rfl rfl)
theorem dX2_message_91 : decode cX2_message 91 = .ok (.ireturn, 1) := dk_172 (dk_at dksX2_message_4 17 rfl rfl)
abbrev cX2_isMessage : ByteArray := prog_12_method_70_code
def yX2_isMessage : MethodName := ⟨RX2, "isMessage", "(I)Z"⟩
def dkwX2_isMessage_1 : List UInt8 := [167, 0, 4, 3, 172]
abbrev dktX2_isMessage_1 : List UInt8 := dkwX2_isMessage_1 ++ []
def dkwX2_isMessage_0 : List UInt8 := [42, 180, 0, 56, 153, 0, 23, 27, 3, 42, 180, 0, 9, 6, 46, 4, 100, 184, 0, 77, 153, 0, 7, 4]
abbrev dktX2_isMessage_0 : List UInt8 := dkwX2_isMessage_0 ++ dktX2_isMessage_1
theorem dksX2_isMessage_0 : cX2_isMessage.data.toList.drop 0 = dktX2_isMessage_0 := by decide +kernel
theorem dksX2_isMessage_1 : cX2_isMessage.data.toList.drop 24 = dktX2_isMessage_1 := dk_seg dksX2_isMessage_0 24 rfl rfl
theorem dX2_isMessage_0 : decode cX2_isMessage 0 = .ok (.aload_n 0, 1) := dk_42 (dk_at dksX2_isMessage_0 0 rfl rfl)
theorem dX2_isMessage_1 : decode cX2_isMessage 1 = .ok (.getfield 56, 3) := dk_180 0 56 (dk_at dksX2_isMessage_0 1 rfl rfl)
theorem dX2_isMessage_4 : decode cX2_isMessage 4 = .ok (.ifCond .eq 23, 3) := dk_153 0 23 (dk_at dksX2_isMessage_0 4 rfl rfl)
theorem dX2_isMessage_7 : decode cX2_isMessage 7 = .ok (.iload_n 1, 1) := dk_27 (dk_at dksX2_isMessage_0 7 rfl rfl)
theorem dX2_isMessage_8 : decode cX2_isMessage 8 = .ok (.iconst 0, 1) := dk_3 (dk_at dksX2_isMessage_0 8 rfl rfl)
theorem dX2_isMessage_9 : decode cX2_isMessage 9 = .ok (.aload_n 0, 1) := dk_42 (dk_at dksX2_isMessage_0 9 rfl rfl)
theorem dX2_isMessage_10 : decode cX2_isMessage 10 = .ok (.getfield 9, 3) := dk_180 0 9 (dk_at dksX2_isMessage_0 10 rfl rfl)
theorem dX2_isMessage_13 : decode cX2_isMessage 13 = .ok (.iconst 3, 1) := dk_6 (dk_at dksX2_isMessage_0 13 rfl rfl)
theorem dX2_isMessage_14 : decode cX2_isMessage 14 = .ok (.iaload, 1) := dk_46 (dk_at dksX2_isMessage_0 14 rfl rfl)
theorem dX2_isMessage_15 : decode cX2_isMessage 15 = .ok (.iconst 1, 1) := dk_4 (dk_at dksX2_isMessage_0 15 rfl rfl)
theorem dX2_isMessage_16 : decode cX2_isMessage 16 = .ok (.isub, 1) := dk_100 (dk_at dksX2_isMessage_0 16 rfl rfl)
theorem dX2_isMessage_17 : decode cX2_isMessage 17 = .ok (.invokestatic 77, 3) := dk_184 0 77 (dk_at dksX2_isMessage_0 17 rfl rfl)
theorem dX2_isMessage_20 : decode cX2_isMessage 20 = .ok (.ifCond .eq 7, 3) := dk_153 0 7 (dk_at dksX2_isMessage_0 20 rfl rfl)
theorem dX2_isMessage_23 : decode cX2_isMessage 23 = .ok (.iconst 1, 1) := dk_4 (dk_at dksX2_isMessage_0 23 rfl rfl)
theorem dX2_isMessage_24 : decode cX2_isMessage 24 = .ok (.goto 4, 3) := dk_167 0 4 (dk_at dksX2_isMessage_1 0 rfl rfl)
theorem dX2_isMessage_27 : decode cX2_isMessage 27 = .ok (.iconst 0, 1) := dk_3 (dk_at dksX2_isMessage_1 3 rfl rfl)
theorem dX2_isMessage_28 : decode cX2_isMessage 28 = .ok (.ireturn, 1) := dk_172 (dk_at dksX2_isMessage_1 4 rfl rfl)
abbrev cX2_rightAll : ByteArray := prog_12_method_85_code
def yX2_rightAll : MethodName := ⟨RX2, "rightAll", "(I)I"⟩
def dkwX2_rightAll_0 : List UInt8 := [42, 27, 3, 182, 1, 70, 42, 27, 4, 182, 1, 70, 96, 42, 27, 5, 182, 1, 70, 96, 172]
abbrev dktX2_rightAll_0 : List UInt8 := dkwX2_rightAll_0 ++ []
theorem dksX2_rightAll_0 : cX2_rightAll.data.toList.drop 0 = dktX2_rightAll_0 := by decide +kernel
theorem dX2_rightAll_0 : decode cX2_rightAll 0 = .ok (.aload_n 0, 1) := dk_42 (dk_at dksX2_rightAll_0 0 rfl rfl)
theorem dX2_rightAll_1 : decode cX2_rightAll 1 = .ok (.iload_n 1, 1) := dk_27 (dk_at dksX2_rightAll_0 1 rfl rfl)
theorem dX2_rightAll_2 : decode cX2_rightAll 2 = .ok (.iconst 0, 1) := dk_3 (dk_at dksX2_rightAll_0 2 rfl rfl)
theorem dX2_rightAll_3 : decode cX2_rightAll 3 = .ok (.invokevirtual 326, 3) := dk_182 1 70 (dk_at dksX2_rightAll_0 3 rfl rfl)
theorem dX2_rightAll_6 : decode cX2_rightAll 6 = .ok (.aload_n 0, 1) := dk_42 (dk_at dksX2_rightAll_0 6 rfl rfl)
theorem dX2_rightAll_7 : decode cX2_rightAll 7 = .ok (.iload_n 1, 1) := dk_27 (dk_at dksX2_rightAll_0 7 rfl rfl)
theorem dX2_rightAll_8 : decode cX2_rightAll 8 = .ok (.iconst 1, 1) := dk_4 (dk_at dksX2_rightAll_0 8 rfl rfl)
theorem dX2_rightAll_9 : decode cX2_rightAll 9 = .ok (.invokevirtual 326, 3) := dk_182 1 70 (dk_at dksX2_rightAll_0 9 rfl rfl)
theorem dX2_rightAll_12 : decode cX2_rightAll 12 = .ok (.iadd, 1) := dk_96 (dk_at dksX2_rightAll_0 12 rfl rfl)
theorem dX2_rightAll_13 : decode cX2_rightAll 13 = .ok (.aload_n 0, 1) := dk_42 (dk_at dksX2_rightAll_0 13 rfl rfl)
theorem dX2_rightAll_14 : decode cX2_rightAll 14 = .ok (.iload_n 1, 1) := dk_27 (dk_at dksX2_rightAll_0 14 rfl rfl)
theorem dX2_rightAll_15 : decode cX2_rightAll 15 = .ok (.iconst 2, 1) := dk_5 (dk_at dksX2_rightAll_0 15 rfl rfl)
theorem dX2_rightAll_16 : decode cX2_rightAll 16 = .ok (.invokevirtual 326, 3) := dk_182 1 70 (dk_at dksX2_rightAll_0 16 rfl rfl)
theorem dX2_rightAll_19 : decode cX2_rightAll 19 = .ok (.iadd, 1) := dk_96 (dk_at dksX2_rightAll_0 19 rfl rfl)
theorem dX2_rightAll_20 : decode cX2_rightAll 20 = .ok (.ireturn, 1) := dk_172 (dk_at dksX2_rightAll_0 20 rfl rfl)
abbrev cX2_rightOf : ByteArray := prog_12_method_84_code
def yX2_rightOf : MethodName := ⟨RX2, "rightOf", "(II)I"⟩
def dkwX2_rightOf_2 : List UInt8 := [132, 4, 1, 167, 255, 213, 29, 172]
abbrev dktX2_rightOf_2 : List UInt8 := dkwX2_rightOf_2 ++ []
def dkwX2_rightOf_1 : List UInt8 := [182, 1, 1, 42, 27, 21, 4, 182, 1, 67, 160, 0, 7, 4, 167, 0, 4, 3, 184, 1, 4, 96, 62]
abbrev dktX2_rightOf_1 : List UInt8 := dkwX2_rightOf_1 ++ dktX2_rightOf_2
def dkwX2_rightOf_0 : List UInt8 := [3, 62, 3, 54, 4, 21, 4, 42, 27, 3, 182, 0, 238, 162, 0, 38, 29, 42, 27, 28, 21, 4]
abbrev dktX2_rightOf_0 : List UInt8 := dkwX2_rightOf_0 ++ dktX2_rightOf_1
theorem dksX2_rightOf_0 : cX2_rightOf.data.toList.drop 0 = dktX2_rightOf_0 := by decide +kernel
theorem dksX2_rightOf_1 : cX2_rightOf.data.toList.drop 22 = dktX2_rightOf_1 := dk_seg dksX2_rightOf_0 22 rfl rfl
theorem dksX2_rightOf_2 : cX2_rightOf.data.toList.drop 45 = dktX2_rightOf_2 := dk_seg dksX2_rightOf_1 23 rfl rfl
theorem dX2_rightOf_0 : decode cX2_rightOf 0 = .ok (.iconst 0, 1) := dk_3 (dk_at dksX2_rightOf_0 0 rfl rfl)
theorem dX2_rightOf_1 : decode cX2_rightOf 1 = .ok (.istore_n 3, 1) := dk_62 (dk_at dksX2_rightOf_0 1 rfl rfl)
theorem dX2_rightOf_2 : decode cX2_rightOf 2 = .ok (.iconst 0, 1) := dk_3 (dk_at dksX2_rightOf_0 2 rfl rfl)
theorem dX2_rightOf_3 : decode cX2_rightOf 3 = .ok (.istore 4, 2) := dk_54 4 (dk_at dksX2_rightOf_0 3 rfl rfl)
theorem dX2_rightOf_5 : decode cX2_rightOf 5 = .ok (.iload 4, 2) := dk_21 4 (dk_at dksX2_rightOf_0 5 rfl rfl)
theorem dX2_rightOf_7 : decode cX2_rightOf 7 = .ok (.aload_n 0, 1) := dk_42 (dk_at dksX2_rightOf_0 7 rfl rfl)
theorem dX2_rightOf_8 : decode cX2_rightOf 8 = .ok (.iload_n 1, 1) := dk_27 (dk_at dksX2_rightOf_0 8 rfl rfl)
theorem dX2_rightOf_9 : decode cX2_rightOf 9 = .ok (.iconst 0, 1) := dk_3 (dk_at dksX2_rightOf_0 9 rfl rfl)
theorem dX2_rightOf_10 : decode cX2_rightOf 10 = .ok (.invokevirtual 238, 3) := dk_182 0 238 (dk_at dksX2_rightOf_0 10 rfl rfl)
theorem dX2_rightOf_13 : decode cX2_rightOf 13 = .ok (.if_icmp .ge 38, 3) := dk_162 0 38 (dk_at dksX2_rightOf_0 13 rfl rfl)
theorem dX2_rightOf_16 : decode cX2_rightOf 16 = .ok (.iload_n 3, 1) := dk_29 (dk_at dksX2_rightOf_0 16 rfl rfl)
theorem dX2_rightOf_17 : decode cX2_rightOf 17 = .ok (.aload_n 0, 1) := dk_42 (dk_at dksX2_rightOf_0 17 rfl rfl)
theorem dX2_rightOf_18 : decode cX2_rightOf 18 = .ok (.iload_n 1, 1) := dk_27 (dk_at dksX2_rightOf_0 18 rfl rfl)
theorem dX2_rightOf_19 : decode cX2_rightOf 19 = .ok (.iload_n 2, 1) := dk_28 (dk_at dksX2_rightOf_0 19 rfl rfl)
theorem dX2_rightOf_20 : decode cX2_rightOf 20 = .ok (.iload 4, 2) := dk_21 4 (dk_at dksX2_rightOf_0 20 rfl rfl)
theorem dX2_rightOf_22 : decode cX2_rightOf 22 = .ok (.invokevirtual 257, 3) := dk_182 1 1 (dk_at dksX2_rightOf_1 0 rfl rfl)
theorem dX2_rightOf_25 : decode cX2_rightOf 25 = .ok (.aload_n 0, 1) := dk_42 (dk_at dksX2_rightOf_1 3 rfl rfl)
theorem dX2_rightOf_26 : decode cX2_rightOf 26 = .ok (.iload_n 1, 1) := dk_27 (dk_at dksX2_rightOf_1 4 rfl rfl)
theorem dX2_rightOf_27 : decode cX2_rightOf 27 = .ok (.iload 4, 2) := dk_21 4 (dk_at dksX2_rightOf_1 5 rfl rfl)
theorem dX2_rightOf_29 : decode cX2_rightOf 29 = .ok (.invokevirtual 323, 3) := dk_182 1 67 (dk_at dksX2_rightOf_1 7 rfl rfl)
theorem dX2_rightOf_32 : decode cX2_rightOf 32 = .ok (.if_icmp .ne 7, 3) := dk_160 0 7 (dk_at dksX2_rightOf_1 10 rfl rfl)
theorem dX2_rightOf_35 : decode cX2_rightOf 35 = .ok (.iconst 1, 1) := dk_4 (dk_at dksX2_rightOf_1 13 rfl rfl)
theorem dX2_rightOf_36 : decode cX2_rightOf 36 = .ok (.goto 4, 3) := dk_167 0 4 (dk_at dksX2_rightOf_1 14 rfl rfl)
theorem dX2_rightOf_39 : decode cX2_rightOf 39 = .ok (.iconst 0, 1) := dk_3 (dk_at dksX2_rightOf_1 17 rfl rfl)
theorem dX2_rightOf_40 : decode cX2_rightOf 40 = .ok (.invokestatic 260, 3) := dk_184 1 4 (dk_at dksX2_rightOf_1 18 rfl rfl)
theorem dX2_rightOf_43 : decode cX2_rightOf 43 = .ok (.iadd, 1) := dk_96 (dk_at dksX2_rightOf_1 21 rfl rfl)
theorem dX2_rightOf_44 : decode cX2_rightOf 44 = .ok (.istore_n 3, 1) := dk_62 (dk_at dksX2_rightOf_1 22 rfl rfl)
theorem dX2_rightOf_45 : decode cX2_rightOf 45 = .ok (.iinc 4 1, 3) := dk_132 4 1 (dk_at dksX2_rightOf_2 0 rfl rfl)
theorem dX2_rightOf_48 : decode cX2_rightOf 48 = .ok (.goto (-43), 3) := dk_167 255 213 (dk_at dksX2_rightOf_2 3 rfl rfl)
theorem dX2_rightOf_51 : decode cX2_rightOf 51 = .ok (.iload_n 3, 1) := dk_29 (dk_at dksX2_rightOf_2 6 rfl rfl)
theorem dX2_rightOf_52 : decode cX2_rightOf 52 = .ok (.ireturn, 1) := dk_172 (dk_at dksX2_rightOf_2 7 rfl rfl)
abbrev cX2_digitAt : ByteArray := prog_12_method_83_code
def yX2_digitAt : MethodName := ⟨RX2, "digitAt", "(II)I"⟩
def dkwX2_digitAt_0 : List UInt8 := [42, 27, 8, 28, 96, 182, 0, 238, 172]
abbrev dktX2_digitAt_0 : List UInt8 := dkwX2_digitAt_0 ++ []
theorem dksX2_digitAt_0 : cX2_digitAt.data.toList.drop 0 = dktX2_digitAt_0 := by decide +kernel
theorem dX2_digitAt_0 : decode cX2_digitAt 0 = .ok (.aload_n 0, 1) := dk_42 (dk_at dksX2_digitAt_0 0 rfl rfl)
theorem dX2_digitAt_1 : decode cX2_digitAt 1 = .ok (.iload_n 1, 1) := dk_27 (dk_at dksX2_digitAt_0 1 rfl rfl)
theorem dX2_digitAt_2 : decode cX2_digitAt 2 = .ok (.iconst 5, 1) := dk_8 (dk_at dksX2_digitAt_0 2 rfl rfl)
theorem dX2_digitAt_3 : decode cX2_digitAt 3 = .ok (.iload_n 2, 1) := dk_28 (dk_at dksX2_digitAt_0 3 rfl rfl)
theorem dX2_digitAt_4 : decode cX2_digitAt 4 = .ok (.iadd, 1) := dk_96 (dk_at dksX2_digitAt_0 4 rfl rfl)
theorem dX2_digitAt_5 : decode cX2_digitAt 5 = .ok (.invokevirtual 238, 3) := dk_182 0 238 (dk_at dksX2_digitAt_0 5 rfl rfl)
theorem dX2_digitAt_8 : decode cX2_digitAt 8 = .ok (.ireturn, 1) := dk_172 (dk_at dksX2_digitAt_0 8 rfl rfl)
abbrev cX2_digit : ByteArray := prog_12_method_87_code
def yX2_digit : MethodName := ⟨RX2, "digit", "(II)I"⟩
def dkwX2_digit_1 : List UInt8 := [167, 0, 4, 3, 172]
abbrev dktX2_digit_1 : List UInt8 := dkwX2_digit_1 ++ []
def dkwX2_digit_0 : List UInt8 := [42, 42, 180, 0, 56, 42, 27, 28, 182, 1, 76, 182, 1, 37, 153, 0, 12, 42, 27, 28, 182, 1, 67]
abbrev dktX2_digit_0 : List UInt8 := dkwX2_digit_0 ++ dktX2_digit_1
theorem dksX2_digit_0 : cX2_digit.data.toList.drop 0 = dktX2_digit_0 := by decide +kernel
theorem dksX2_digit_1 : cX2_digit.data.toList.drop 23 = dktX2_digit_1 := dk_seg dksX2_digit_0 23 rfl rfl
theorem dX2_digit_0 : decode cX2_digit 0 = .ok (.aload_n 0, 1) := dk_42 (dk_at dksX2_digit_0 0 rfl rfl)
theorem dX2_digit_1 : decode cX2_digit 1 = .ok (.aload_n 0, 1) := dk_42 (dk_at dksX2_digit_0 1 rfl rfl)
theorem dX2_digit_2 : decode cX2_digit 2 = .ok (.getfield 56, 3) := dk_180 0 56 (dk_at dksX2_digit_0 2 rfl rfl)
theorem dX2_digit_5 : decode cX2_digit 5 = .ok (.aload_n 0, 1) := dk_42 (dk_at dksX2_digit_0 5 rfl rfl)
theorem dX2_digit_6 : decode cX2_digit 6 = .ok (.iload_n 1, 1) := dk_27 (dk_at dksX2_digit_0 6 rfl rfl)
theorem dX2_digit_7 : decode cX2_digit 7 = .ok (.iload_n 2, 1) := dk_28 (dk_at dksX2_digit_0 7 rfl rfl)
theorem dX2_digit_8 : decode cX2_digit 8 = .ok (.invokevirtual 332, 3) := dk_182 1 76 (dk_at dksX2_digit_0 8 rfl rfl)
theorem dX2_digit_11 : decode cX2_digit 11 = .ok (.invokevirtual 293, 3) := dk_182 1 37 (dk_at dksX2_digit_0 11 rfl rfl)
theorem dX2_digit_14 : decode cX2_digit 14 = .ok (.ifCond .eq 12, 3) := dk_153 0 12 (dk_at dksX2_digit_0 14 rfl rfl)
theorem dX2_digit_17 : decode cX2_digit 17 = .ok (.aload_n 0, 1) := dk_42 (dk_at dksX2_digit_0 17 rfl rfl)
theorem dX2_digit_18 : decode cX2_digit 18 = .ok (.iload_n 1, 1) := dk_27 (dk_at dksX2_digit_0 18 rfl rfl)
theorem dX2_digit_19 : decode cX2_digit 19 = .ok (.iload_n 2, 1) := dk_28 (dk_at dksX2_digit_0 19 rfl rfl)
theorem dX2_digit_20 : decode cX2_digit 20 = .ok (.invokevirtual 323, 3) := dk_182 1 67 (dk_at dksX2_digit_0 20 rfl rfl)
theorem dX2_digit_23 : decode cX2_digit 23 = .ok (.goto 4, 3) := dk_167 0 4 (dk_at dksX2_digit_1 0 rfl rfl)
theorem dX2_digit_26 : decode cX2_digit 26 = .ok (.iconst 0, 1) := dk_3 (dk_at dksX2_digit_1 3 rfl rfl)
theorem dX2_digit_27 : decode cX2_digit 27 = .ok (.ireturn, 1) := dk_172 (dk_at dksX2_digit_1 4 rfl rfl)
abbrev cX2_isPlace : ByteArray := prog_12_method_71_code
def yX2_isPlace : MethodName := ⟨RX2, "isPlace", "(II)Z"⟩
def dkwX2_isPlace_1 : List UInt8 := [4, 167, 0, 4, 3, 172]
abbrev dktX2_isPlace_1 : List UInt8 := dkwX2_isPlace_1 ++ []
def dkwX2_isPlace_0 : List UInt8 := [42, 27, 182, 1, 47, 153, 0, 23, 28, 3, 42, 27, 3, 182, 0, 238, 4, 100, 184, 0, 77, 153, 0, 7]
abbrev dktX2_isPlace_0 : List UInt8 := dkwX2_isPlace_0 ++ dktX2_isPlace_1
theorem dksX2_isPlace_0 : cX2_isPlace.data.toList.drop 0 = dktX2_isPlace_0 := by decide +kernel
theorem dksX2_isPlace_1 : cX2_isPlace.data.toList.drop 24 = dktX2_isPlace_1 := dk_seg dksX2_isPlace_0 24 rfl rfl
theorem dX2_isPlace_0 : decode cX2_isPlace 0 = .ok (.aload_n 0, 1) := dk_42 (dk_at dksX2_isPlace_0 0 rfl rfl)
theorem dX2_isPlace_1 : decode cX2_isPlace 1 = .ok (.iload_n 1, 1) := dk_27 (dk_at dksX2_isPlace_0 1 rfl rfl)
theorem dX2_isPlace_2 : decode cX2_isPlace 2 = .ok (.invokevirtual 303, 3) := dk_182 1 47 (dk_at dksX2_isPlace_0 2 rfl rfl)
theorem dX2_isPlace_5 : decode cX2_isPlace 5 = .ok (.ifCond .eq 23, 3) := dk_153 0 23 (dk_at dksX2_isPlace_0 5 rfl rfl)
theorem dX2_isPlace_8 : decode cX2_isPlace 8 = .ok (.iload_n 2, 1) := dk_28 (dk_at dksX2_isPlace_0 8 rfl rfl)
theorem dX2_isPlace_9 : decode cX2_isPlace 9 = .ok (.iconst 0, 1) := dk_3 (dk_at dksX2_isPlace_0 9 rfl rfl)
theorem dX2_isPlace_10 : decode cX2_isPlace 10 = .ok (.aload_n 0, 1) := dk_42 (dk_at dksX2_isPlace_0 10 rfl rfl)
theorem dX2_isPlace_11 : decode cX2_isPlace 11 = .ok (.iload_n 1, 1) := dk_27 (dk_at dksX2_isPlace_0 11 rfl rfl)
theorem dX2_isPlace_12 : decode cX2_isPlace 12 = .ok (.iconst 0, 1) := dk_3 (dk_at dksX2_isPlace_0 12 rfl rfl)
theorem dX2_isPlace_13 : decode cX2_isPlace 13 = .ok (.invokevirtual 238, 3) := dk_182 0 238 (dk_at dksX2_isPlace_0 13 rfl rfl)
theorem dX2_isPlace_16 : decode cX2_isPlace 16 = .ok (.iconst 1, 1) := dk_4 (dk_at dksX2_isPlace_0 16 rfl rfl)
theorem dX2_isPlace_17 : decode cX2_isPlace 17 = .ok (.isub, 1) := dk_100 (dk_at dksX2_isPlace_0 17 rfl rfl)
theorem dX2_isPlace_18 : decode cX2_isPlace 18 = .ok (.invokestatic 77, 3) := dk_184 0 77 (dk_at dksX2_isPlace_0 18 rfl rfl)
theorem dX2_isPlace_21 : decode cX2_isPlace 21 = .ok (.ifCond .eq 7, 3) := dk_153 0 7 (dk_at dksX2_isPlace_0 21 rfl rfl)
theorem dX2_isPlace_24 : decode cX2_isPlace 24 = .ok (.iconst 1, 1) := dk_4 (dk_at dksX2_isPlace_1 0 rfl rfl)
theorem dX2_isPlace_25 : decode cX2_isPlace 25 = .ok (.goto 4, 3) := dk_167 0 4 (dk_at dksX2_isPlace_1 1 rfl rfl)
theorem dX2_isPlace_28 : decode cX2_isPlace 28 = .ok (.iconst 0, 1) := dk_3 (dk_at dksX2_isPlace_1 4 rfl rfl)
theorem dX2_isPlace_29 : decode cX2_isPlace 29 = .ok (.ireturn, 1) := dk_172 (dk_at dksX2_isPlace_1 5 rfl rfl)
abbrev cX2_has : ByteArray := prog_12_method_89_code
def yX2_has : MethodName := ⟨RX2, "has", "(III)I"⟩
def dkwX2_has_0 : List UInt8 := [42, 27, 28, 29, 182, 1, 79, 153, 0, 13, 42, 27, 28, 29, 182, 1, 1, 167, 0, 4, 3, 172]
abbrev dktX2_has_0 : List UInt8 := dkwX2_has_0 ++ []
theorem dksX2_has_0 : cX2_has.data.toList.drop 0 = dktX2_has_0 := by decide +kernel
theorem dX2_has_0 : decode cX2_has 0 = .ok (.aload_n 0, 1) := dk_42 (dk_at dksX2_has_0 0 rfl rfl)
theorem dX2_has_1 : decode cX2_has 1 = .ok (.iload_n 1, 1) := dk_27 (dk_at dksX2_has_0 1 rfl rfl)
theorem dX2_has_2 : decode cX2_has 2 = .ok (.iload_n 2, 1) := dk_28 (dk_at dksX2_has_0 2 rfl rfl)
theorem dX2_has_3 : decode cX2_has 3 = .ok (.iload_n 3, 1) := dk_29 (dk_at dksX2_has_0 3 rfl rfl)
theorem dX2_has_4 : decode cX2_has 4 = .ok (.invokevirtual 335, 3) := dk_182 1 79 (dk_at dksX2_has_0 4 rfl rfl)
theorem dX2_has_7 : decode cX2_has 7 = .ok (.ifCond .eq 13, 3) := dk_153 0 13 (dk_at dksX2_has_0 7 rfl rfl)
theorem dX2_has_10 : decode cX2_has 10 = .ok (.aload_n 0, 1) := dk_42 (dk_at dksX2_has_0 10 rfl rfl)
theorem dX2_has_11 : decode cX2_has 11 = .ok (.iload_n 1, 1) := dk_27 (dk_at dksX2_has_0 11 rfl rfl)
theorem dX2_has_12 : decode cX2_has 12 = .ok (.iload_n 2, 1) := dk_28 (dk_at dksX2_has_0 12 rfl rfl)
theorem dX2_has_13 : decode cX2_has 13 = .ok (.iload_n 3, 1) := dk_29 (dk_at dksX2_has_0 13 rfl rfl)
theorem dX2_has_14 : decode cX2_has 14 = .ok (.invokevirtual 257, 3) := dk_182 1 1 (dk_at dksX2_has_0 14 rfl rfl)
theorem dX2_has_17 : decode cX2_has 17 = .ok (.goto 4, 3) := dk_167 0 4 (dk_at dksX2_has_0 17 rfl rfl)
theorem dX2_has_20 : decode cX2_has 20 = .ok (.iconst 0, 1) := dk_3 (dk_at dksX2_has_0 20 rfl rfl)
theorem dX2_has_21 : decode cX2_has 21 = .ok (.ireturn, 1) := dk_172 (dk_at dksX2_has_0 21 rfl rfl)
abbrev cX2_mayPlace : ByteArray := prog_12_method_88_code
def yX2_mayPlace : MethodName := ⟨RX2, "mayPlace", "(III)Z"⟩
def dkwX2_mayPlace_1 : List UInt8 := [167, 0, 4, 3, 182, 1, 37, 172]
abbrev dktX2_mayPlace_1 : List UInt8 := dkwX2_mayPlace_1 ++ []
def dkwX2_mayPlace_0 : List UInt8 := [42, 42, 180, 0, 56, 42, 27, 29, 182, 1, 76, 153, 0, 15, 42, 28, 182, 1, 44, 153, 0, 7, 4]
abbrev dktX2_mayPlace_0 : List UInt8 := dkwX2_mayPlace_0 ++ dktX2_mayPlace_1
theorem dksX2_mayPlace_0 : cX2_mayPlace.data.toList.drop 0 = dktX2_mayPlace_0 := by decide +kernel
theorem dksX2_mayPlace_1 : cX2_mayPlace.data.toList.drop 23 = dktX2_mayPlace_1 := dk_seg dksX2_mayPlace_0 23 rfl rfl
theorem dX2_mayPlace_0 : decode cX2_mayPlace 0 = .ok (.aload_n 0, 1) := dk_42 (dk_at dksX2_mayPlace_0 0 rfl rfl)
theorem dX2_mayPlace_1 : decode cX2_mayPlace 1 = .ok (.aload_n 0, 1) := dk_42 (dk_at dksX2_mayPlace_0 1 rfl rfl)
theorem dX2_mayPlace_2 : decode cX2_mayPlace 2 = .ok (.getfield 56, 3) := dk_180 0 56 (dk_at dksX2_mayPlace_0 2 rfl rfl)
theorem dX2_mayPlace_5 : decode cX2_mayPlace 5 = .ok (.aload_n 0, 1) := dk_42 (dk_at dksX2_mayPlace_0 5 rfl rfl)
theorem dX2_mayPlace_6 : decode cX2_mayPlace 6 = .ok (.iload_n 1, 1) := dk_27 (dk_at dksX2_mayPlace_0 6 rfl rfl)
theorem dX2_mayPlace_7 : decode cX2_mayPlace 7 = .ok (.iload_n 3, 1) := dk_29 (dk_at dksX2_mayPlace_0 7 rfl rfl)
theorem dX2_mayPlace_8 : decode cX2_mayPlace 8 = .ok (.invokevirtual 332, 3) := dk_182 1 76 (dk_at dksX2_mayPlace_0 8 rfl rfl)
theorem dX2_mayPlace_11 : decode cX2_mayPlace 11 = .ok (.ifCond .eq 15, 3) := dk_153 0 15 (dk_at dksX2_mayPlace_0 11 rfl rfl)
theorem dX2_mayPlace_14 : decode cX2_mayPlace 14 = .ok (.aload_n 0, 1) := dk_42 (dk_at dksX2_mayPlace_0 14 rfl rfl)
theorem dX2_mayPlace_15 : decode cX2_mayPlace 15 = .ok (.iload_n 2, 1) := dk_28 (dk_at dksX2_mayPlace_0 15 rfl rfl)
theorem dX2_mayPlace_16 : decode cX2_mayPlace 16 = .ok (.invokevirtual 300, 3) := dk_182 1 44 (dk_at dksX2_mayPlace_0 16 rfl rfl)
theorem dX2_mayPlace_19 : decode cX2_mayPlace 19 = .ok (.ifCond .eq 7, 3) := dk_153 0 7 (dk_at dksX2_mayPlace_0 19 rfl rfl)
theorem dX2_mayPlace_22 : decode cX2_mayPlace 22 = .ok (.iconst 1, 1) := dk_4 (dk_at dksX2_mayPlace_0 22 rfl rfl)
theorem dX2_mayPlace_23 : decode cX2_mayPlace 23 = .ok (.goto 4, 3) := dk_167 0 4 (dk_at dksX2_mayPlace_1 0 rfl rfl)
theorem dX2_mayPlace_26 : decode cX2_mayPlace 26 = .ok (.iconst 0, 1) := dk_3 (dk_at dksX2_mayPlace_1 3 rfl rfl)
theorem dX2_mayPlace_27 : decode cX2_mayPlace 27 = .ok (.invokevirtual 293, 3) := dk_182 1 37 (dk_at dksX2_mayPlace_1 4 rfl rfl)
theorem dX2_mayPlace_30 : decode cX2_mayPlace 30 = .ok (.ireturn, 1) := dk_172 (dk_at dksX2_mayPlace_1 7 rfl rfl)
abbrev cX2_copy : ByteArray := prog_12_method_90_code
def yX2_copy : MethodName := ⟨RX2, "copy", "(IIII)I"⟩
def dkwX2_copy_2 : List UInt8 := [182, 0, 238, 154, 0, 8, 16, 254, 167, 0, 12, 42, 27, 28, 29, 21, 4, 182, 0, 244, 172]
abbrev dktX2_copy_2 : List UInt8 := dkwX2_copy_2 ++ []
def dkwX2_copy_1 : List UInt8 := [21, 4, 182, 1, 44, 153, 0, 7, 4, 167, 0, 4, 3, 182, 1, 37, 154, 0, 5, 3, 172, 42, 27, 4]
abbrev dktX2_copy_1 : List UInt8 := dkwX2_copy_1 ++ dktX2_copy_2
def dkwX2_copy_0 : List UInt8 := [42, 42, 180, 0, 56, 42, 27, 29, 182, 1, 76, 153, 0, 24, 42, 28, 182, 1, 44, 153, 0, 16, 42]
abbrev dktX2_copy_0 : List UInt8 := dkwX2_copy_0 ++ dktX2_copy_1
theorem dksX2_copy_0 : cX2_copy.data.toList.drop 0 = dktX2_copy_0 := by decide +kernel
theorem dksX2_copy_1 : cX2_copy.data.toList.drop 23 = dktX2_copy_1 := dk_seg dksX2_copy_0 23 rfl rfl
theorem dksX2_copy_2 : cX2_copy.data.toList.drop 47 = dktX2_copy_2 := dk_seg dksX2_copy_1 24 rfl rfl
theorem dX2_copy_0 : decode cX2_copy 0 = .ok (.aload_n 0, 1) := dk_42 (dk_at dksX2_copy_0 0 rfl rfl)
theorem dX2_copy_1 : decode cX2_copy 1 = .ok (.aload_n 0, 1) := dk_42 (dk_at dksX2_copy_0 1 rfl rfl)
theorem dX2_copy_2 : decode cX2_copy 2 = .ok (.getfield 56, 3) := dk_180 0 56 (dk_at dksX2_copy_0 2 rfl rfl)
theorem dX2_copy_5 : decode cX2_copy 5 = .ok (.aload_n 0, 1) := dk_42 (dk_at dksX2_copy_0 5 rfl rfl)
theorem dX2_copy_6 : decode cX2_copy 6 = .ok (.iload_n 1, 1) := dk_27 (dk_at dksX2_copy_0 6 rfl rfl)
theorem dX2_copy_7 : decode cX2_copy 7 = .ok (.iload_n 3, 1) := dk_29 (dk_at dksX2_copy_0 7 rfl rfl)
theorem dX2_copy_8 : decode cX2_copy 8 = .ok (.invokevirtual 332, 3) := dk_182 1 76 (dk_at dksX2_copy_0 8 rfl rfl)
theorem dX2_copy_11 : decode cX2_copy 11 = .ok (.ifCond .eq 24, 3) := dk_153 0 24 (dk_at dksX2_copy_0 11 rfl rfl)
theorem dX2_copy_14 : decode cX2_copy 14 = .ok (.aload_n 0, 1) := dk_42 (dk_at dksX2_copy_0 14 rfl rfl)
theorem dX2_copy_15 : decode cX2_copy 15 = .ok (.iload_n 2, 1) := dk_28 (dk_at dksX2_copy_0 15 rfl rfl)
theorem dX2_copy_16 : decode cX2_copy 16 = .ok (.invokevirtual 300, 3) := dk_182 1 44 (dk_at dksX2_copy_0 16 rfl rfl)
theorem dX2_copy_19 : decode cX2_copy 19 = .ok (.ifCond .eq 16, 3) := dk_153 0 16 (dk_at dksX2_copy_0 19 rfl rfl)
theorem dX2_copy_22 : decode cX2_copy 22 = .ok (.aload_n 0, 1) := dk_42 (dk_at dksX2_copy_0 22 rfl rfl)
theorem dX2_copy_23 : decode cX2_copy 23 = .ok (.iload 4, 2) := dk_21 4 (dk_at dksX2_copy_1 0 rfl rfl)
theorem dX2_copy_25 : decode cX2_copy 25 = .ok (.invokevirtual 300, 3) := dk_182 1 44 (dk_at dksX2_copy_1 2 rfl rfl)
theorem dX2_copy_28 : decode cX2_copy 28 = .ok (.ifCond .eq 7, 3) := dk_153 0 7 (dk_at dksX2_copy_1 5 rfl rfl)
theorem dX2_copy_31 : decode cX2_copy 31 = .ok (.iconst 1, 1) := dk_4 (dk_at dksX2_copy_1 8 rfl rfl)
theorem dX2_copy_32 : decode cX2_copy 32 = .ok (.goto 4, 3) := dk_167 0 4 (dk_at dksX2_copy_1 9 rfl rfl)
theorem dX2_copy_35 : decode cX2_copy 35 = .ok (.iconst 0, 1) := dk_3 (dk_at dksX2_copy_1 12 rfl rfl)
theorem dX2_copy_36 : decode cX2_copy 36 = .ok (.invokevirtual 293, 3) := dk_182 1 37 (dk_at dksX2_copy_1 13 rfl rfl)
theorem dX2_copy_39 : decode cX2_copy 39 = .ok (.ifCond .ne 5, 3) := dk_154 0 5 (dk_at dksX2_copy_1 16 rfl rfl)
theorem dX2_copy_42 : decode cX2_copy 42 = .ok (.iconst 0, 1) := dk_3 (dk_at dksX2_copy_1 19 rfl rfl)
theorem dX2_copy_43 : decode cX2_copy 43 = .ok (.ireturn, 1) := dk_172 (dk_at dksX2_copy_1 20 rfl rfl)
theorem dX2_copy_44 : decode cX2_copy 44 = .ok (.aload_n 0, 1) := dk_42 (dk_at dksX2_copy_1 21 rfl rfl)
theorem dX2_copy_45 : decode cX2_copy 45 = .ok (.iload_n 1, 1) := dk_27 (dk_at dksX2_copy_1 22 rfl rfl)
theorem dX2_copy_46 : decode cX2_copy 46 = .ok (.iconst 1, 1) := dk_4 (dk_at dksX2_copy_1 23 rfl rfl)
theorem dX2_copy_47 : decode cX2_copy 47 = .ok (.invokevirtual 238, 3) := dk_182 0 238 (dk_at dksX2_copy_2 0 rfl rfl)
theorem dX2_copy_50 : decode cX2_copy 50 = .ok (.ifCond .ne 8, 3) := dk_154 0 8 (dk_at dksX2_copy_2 3 rfl rfl)
theorem dX2_copy_53 : decode cX2_copy 53 = .ok (.bipush (-2), 2) := dk_16 254 (dk_at dksX2_copy_2 6 rfl rfl)
theorem dX2_copy_55 : decode cX2_copy 55 = .ok (.goto 12, 3) := dk_167 0 12 (dk_at dksX2_copy_2 8 rfl rfl)
theorem dX2_copy_58 : decode cX2_copy 58 = .ok (.aload_n 0, 1) := dk_42 (dk_at dksX2_copy_2 11 rfl rfl)
theorem dX2_copy_59 : decode cX2_copy 59 = .ok (.iload_n 1, 1) := dk_27 (dk_at dksX2_copy_2 12 rfl rfl)
theorem dX2_copy_60 : decode cX2_copy 60 = .ok (.iload_n 2, 1) := dk_28 (dk_at dksX2_copy_2 13 rfl rfl)
theorem dX2_copy_61 : decode cX2_copy 61 = .ok (.iload_n 3, 1) := dk_29 (dk_at dksX2_copy_2 14 rfl rfl)
theorem dX2_copy_62 : decode cX2_copy 62 = .ok (.iload 4, 2) := dk_21 4 (dk_at dksX2_copy_2 15 rfl rfl)
theorem dX2_copy_64 : decode cX2_copy 64 = .ok (.invokevirtual 244, 3) := dk_182 0 244 (dk_at dksX2_copy_2 17 rfl rfl)
theorem dX2_copy_67 : decode cX2_copy 67 = .ok (.ireturn, 1) := dk_172 (dk_at dksX2_copy_2 20 rfl rfl)
abbrev cX2_vote : ByteArray := prog_12_method_94_code
def yX2_vote : MethodName := ⟨RX2, "vote", "(III)I"⟩
def dkwX2_vote_0 : List UInt8 := [42, 27, 28, 29, 182, 1, 79, 153, 0, 13, 42, 27, 28, 29, 182, 1, 88, 167, 0, 4, 3, 172]
abbrev dktX2_vote_0 : List UInt8 := dkwX2_vote_0 ++ []
theorem dksX2_vote_0 : cX2_vote.data.toList.drop 0 = dktX2_vote_0 := by decide +kernel
theorem dX2_vote_0 : decode cX2_vote 0 = .ok (.aload_n 0, 1) := dk_42 (dk_at dksX2_vote_0 0 rfl rfl)
theorem dX2_vote_1 : decode cX2_vote 1 = .ok (.iload_n 1, 1) := dk_27 (dk_at dksX2_vote_0 1 rfl rfl)
theorem dX2_vote_2 : decode cX2_vote 2 = .ok (.iload_n 2, 1) := dk_28 (dk_at dksX2_vote_0 2 rfl rfl)
theorem dX2_vote_3 : decode cX2_vote 3 = .ok (.iload_n 3, 1) := dk_29 (dk_at dksX2_vote_0 3 rfl rfl)
theorem dX2_vote_4 : decode cX2_vote 4 = .ok (.invokevirtual 335, 3) := dk_182 1 79 (dk_at dksX2_vote_0 4 rfl rfl)
theorem dX2_vote_7 : decode cX2_vote 7 = .ok (.ifCond .eq 13, 3) := dk_153 0 13 (dk_at dksX2_vote_0 7 rfl rfl)
theorem dX2_vote_10 : decode cX2_vote 10 = .ok (.aload_n 0, 1) := dk_42 (dk_at dksX2_vote_0 10 rfl rfl)
theorem dX2_vote_11 : decode cX2_vote 11 = .ok (.iload_n 1, 1) := dk_27 (dk_at dksX2_vote_0 11 rfl rfl)
theorem dX2_vote_12 : decode cX2_vote 12 = .ok (.iload_n 2, 1) := dk_28 (dk_at dksX2_vote_0 12 rfl rfl)
theorem dX2_vote_13 : decode cX2_vote 13 = .ok (.iload_n 3, 1) := dk_29 (dk_at dksX2_vote_0 13 rfl rfl)
theorem dX2_vote_14 : decode cX2_vote 14 = .ok (.invokevirtual 344, 3) := dk_182 1 88 (dk_at dksX2_vote_0 14 rfl rfl)
theorem dX2_vote_17 : decode cX2_vote 17 = .ok (.goto 4, 3) := dk_167 0 4 (dk_at dksX2_vote_0 17 rfl rfl)
theorem dX2_vote_20 : decode cX2_vote 20 = .ok (.iconst 0, 1) := dk_3 (dk_at dksX2_vote_0 20 rfl rfl)
theorem dX2_vote_21 : decode cX2_vote 21 = .ok (.ireturn, 1) := dk_172 (dk_at dksX2_vote_0 21 rfl rfl)
abbrev cX2_voteAt : ByteArray := prog_12_method_93_code
def yX2_voteAt : MethodName := ⟨RX2, "voteAt", "(III)I"⟩
def dkwX2_voteAt_2 : List UInt8 := [167, 0, 4, 7, 172, 42, 27, 28, 29, 182, 1, 85, 153, 0, 7, 4, 167, 0, 4, 5, 172]
abbrev dktX2_voteAt_2 : List UInt8 := dkwX2_voteAt_2 ++ []
def dkwX2_voteAt_1 : List UInt8 := [162, 0, 5, 8, 172, 42, 27, 28, 29, 182, 0, 254, 2, 160, 0, 15, 21, 4, 6, 160, 0, 7, 6]
abbrev dktX2_voteAt_1 : List UInt8 := dkwX2_voteAt_1 ++ dktX2_voteAt_2
def dkwX2_voteAt_0 : List UInt8 := [42, 27, 4, 182, 0, 238, 154, 0, 5, 3, 172, 42, 27, 28, 29, 182, 1, 82, 54, 4, 21, 4, 5]
abbrev dktX2_voteAt_0 : List UInt8 := dkwX2_voteAt_0 ++ dktX2_voteAt_1
theorem dksX2_voteAt_0 : cX2_voteAt.data.toList.drop 0 = dktX2_voteAt_0 := by decide +kernel
theorem dksX2_voteAt_1 : cX2_voteAt.data.toList.drop 23 = dktX2_voteAt_1 := dk_seg dksX2_voteAt_0 23 rfl rfl
theorem dksX2_voteAt_2 : cX2_voteAt.data.toList.drop 46 = dktX2_voteAt_2 := dk_seg dksX2_voteAt_1 23 rfl rfl
theorem dX2_voteAt_0 : decode cX2_voteAt 0 = .ok (.aload_n 0, 1) := dk_42 (dk_at dksX2_voteAt_0 0 rfl rfl)
theorem dX2_voteAt_1 : decode cX2_voteAt 1 = .ok (.iload_n 1, 1) := dk_27 (dk_at dksX2_voteAt_0 1 rfl rfl)
theorem dX2_voteAt_2 : decode cX2_voteAt 2 = .ok (.iconst 1, 1) := dk_4 (dk_at dksX2_voteAt_0 2 rfl rfl)
theorem dX2_voteAt_3 : decode cX2_voteAt 3 = .ok (.invokevirtual 238, 3) := dk_182 0 238 (dk_at dksX2_voteAt_0 3 rfl rfl)
theorem dX2_voteAt_6 : decode cX2_voteAt 6 = .ok (.ifCond .ne 5, 3) := dk_154 0 5 (dk_at dksX2_voteAt_0 6 rfl rfl)
theorem dX2_voteAt_9 : decode cX2_voteAt 9 = .ok (.iconst 0, 1) := dk_3 (dk_at dksX2_voteAt_0 9 rfl rfl)
theorem dX2_voteAt_10 : decode cX2_voteAt 10 = .ok (.ireturn, 1) := dk_172 (dk_at dksX2_voteAt_0 10 rfl rfl)
theorem dX2_voteAt_11 : decode cX2_voteAt 11 = .ok (.aload_n 0, 1) := dk_42 (dk_at dksX2_voteAt_0 11 rfl rfl)
theorem dX2_voteAt_12 : decode cX2_voteAt 12 = .ok (.iload_n 1, 1) := dk_27 (dk_at dksX2_voteAt_0 12 rfl rfl)
theorem dX2_voteAt_13 : decode cX2_voteAt 13 = .ok (.iload_n 2, 1) := dk_28 (dk_at dksX2_voteAt_0 13 rfl rfl)
theorem dX2_voteAt_14 : decode cX2_voteAt 14 = .ok (.iload_n 3, 1) := dk_29 (dk_at dksX2_voteAt_0 14 rfl rfl)
theorem dX2_voteAt_15 : decode cX2_voteAt 15 = .ok (.invokevirtual 338, 3) := dk_182 1 82 (dk_at dksX2_voteAt_0 15 rfl rfl)
theorem dX2_voteAt_18 : decode cX2_voteAt 18 = .ok (.istore 4, 2) := dk_54 4 (dk_at dksX2_voteAt_0 18 rfl rfl)
theorem dX2_voteAt_20 : decode cX2_voteAt 20 = .ok (.iload 4, 2) := dk_21 4 (dk_at dksX2_voteAt_0 20 rfl rfl)
theorem dX2_voteAt_22 : decode cX2_voteAt 22 = .ok (.iconst 2, 1) := dk_5 (dk_at dksX2_voteAt_0 22 rfl rfl)
theorem dX2_voteAt_23 : decode cX2_voteAt 23 = .ok (.if_icmp .ge 5, 3) := dk_162 0 5 (dk_at dksX2_voteAt_1 0 rfl rfl)
theorem dX2_voteAt_26 : decode cX2_voteAt 26 = .ok (.iconst 5, 1) := dk_8 (dk_at dksX2_voteAt_1 3 rfl rfl)
theorem dX2_voteAt_27 : decode cX2_voteAt 27 = .ok (.ireturn, 1) := dk_172 (dk_at dksX2_voteAt_1 4 rfl rfl)
theorem dX2_voteAt_28 : decode cX2_voteAt 28 = .ok (.aload_n 0, 1) := dk_42 (dk_at dksX2_voteAt_1 5 rfl rfl)
theorem dX2_voteAt_29 : decode cX2_voteAt 29 = .ok (.iload_n 1, 1) := dk_27 (dk_at dksX2_voteAt_1 6 rfl rfl)
theorem dX2_voteAt_30 : decode cX2_voteAt 30 = .ok (.iload_n 2, 1) := dk_28 (dk_at dksX2_voteAt_1 7 rfl rfl)
theorem dX2_voteAt_31 : decode cX2_voteAt 31 = .ok (.iload_n 3, 1) := dk_29 (dk_at dksX2_voteAt_1 8 rfl rfl)
theorem dX2_voteAt_32 : decode cX2_voteAt 32 = .ok (.invokevirtual 254, 3) := dk_182 0 254 (dk_at dksX2_voteAt_1 9 rfl rfl)
theorem dX2_voteAt_35 : decode cX2_voteAt 35 = .ok (.iconst (-1), 1) := dk_2 (dk_at dksX2_voteAt_1 12 rfl rfl)
theorem dX2_voteAt_36 : decode cX2_voteAt 36 = .ok (.if_icmp .ne 15, 3) := dk_160 0 15 (dk_at dksX2_voteAt_1 13 rfl rfl)
theorem dX2_voteAt_39 : decode cX2_voteAt 39 = .ok (.iload 4, 2) := dk_21 4 (dk_at dksX2_voteAt_1 16 rfl rfl)
theorem dX2_voteAt_41 : decode cX2_voteAt 41 = .ok (.iconst 3, 1) := dk_6 (dk_at dksX2_voteAt_1 18 rfl rfl)
theorem dX2_voteAt_42 : decode cX2_voteAt 42 = .ok (.if_icmp .ne 7, 3) := dk_160 0 7 (dk_at dksX2_voteAt_1 19 rfl rfl)
theorem dX2_voteAt_45 : decode cX2_voteAt 45 = .ok (.iconst 3, 1) := dk_6 (dk_at dksX2_voteAt_1 22 rfl rfl)
theorem dX2_voteAt_46 : decode cX2_voteAt 46 = .ok (.goto 4, 3) := dk_167 0 4 (dk_at dksX2_voteAt_2 0 rfl rfl)
theorem dX2_voteAt_49 : decode cX2_voteAt 49 = .ok (.iconst 4, 1) := dk_7 (dk_at dksX2_voteAt_2 3 rfl rfl)
theorem dX2_voteAt_50 : decode cX2_voteAt 50 = .ok (.ireturn, 1) := dk_172 (dk_at dksX2_voteAt_2 4 rfl rfl)
theorem dX2_voteAt_51 : decode cX2_voteAt 51 = .ok (.aload_n 0, 1) := dk_42 (dk_at dksX2_voteAt_2 5 rfl rfl)
theorem dX2_voteAt_52 : decode cX2_voteAt 52 = .ok (.iload_n 1, 1) := dk_27 (dk_at dksX2_voteAt_2 6 rfl rfl)
theorem dX2_voteAt_53 : decode cX2_voteAt 53 = .ok (.iload_n 2, 1) := dk_28 (dk_at dksX2_voteAt_2 7 rfl rfl)
theorem dX2_voteAt_54 : decode cX2_voteAt 54 = .ok (.iload_n 3, 1) := dk_29 (dk_at dksX2_voteAt_2 8 rfl rfl)
theorem dX2_voteAt_55 : decode cX2_voteAt 55 = .ok (.invokevirtual 341, 3) := dk_182 1 85 (dk_at dksX2_voteAt_2 9 rfl rfl)
theorem dX2_voteAt_58 : decode cX2_voteAt 58 = .ok (.ifCond .eq 7, 3) := dk_153 0 7 (dk_at dksX2_voteAt_2 12 rfl rfl)
theorem dX2_voteAt_61 : decode cX2_voteAt 61 = .ok (.iconst 1, 1) := dk_4 (dk_at dksX2_voteAt_2 15 rfl rfl)
theorem dX2_voteAt_62 : decode cX2_voteAt 62 = .ok (.goto 4, 3) := dk_167 0 4 (dk_at dksX2_voteAt_2 16 rfl rfl)
theorem dX2_voteAt_65 : decode cX2_voteAt 65 = .ok (.iconst 2, 1) := dk_5 (dk_at dksX2_voteAt_2 19 rfl rfl)
theorem dX2_voteAt_66 : decode cX2_voteAt 66 = .ok (.ireturn, 1) := dk_172 (dk_at dksX2_voteAt_2 20 rfl rfl)
abbrev cX2_cameMany : ByteArray := prog_12_method_91_code
def yX2_cameMany : MethodName := ⟨RX2, "cameMany", "(III)I"⟩
def dkwX2_cameMany_1 : List UInt8 := [159, 0, 7, 4, 167, 0, 4, 3, 184, 1, 4, 96, 54, 4, 132, 5, 1, 167, 255, 221, 21, 4, 172]
abbrev dktX2_cameMany_1 : List UInt8 := dkwX2_cameMany_1 ++ []
def dkwX2_cameMany_0 : List UInt8 := [3, 54, 4, 3, 54, 5, 21, 5, 6, 162, 0, 35, 21, 4, 42, 27, 28, 29, 21, 5, 182, 0, 244, 2]
abbrev dktX2_cameMany_0 : List UInt8 := dkwX2_cameMany_0 ++ dktX2_cameMany_1
theorem dksX2_cameMany_0 : cX2_cameMany.data.toList.drop 0 = dktX2_cameMany_0 := by decide +kernel
theorem dksX2_cameMany_1 : cX2_cameMany.data.toList.drop 24 = dktX2_cameMany_1 := dk_seg dksX2_cameMany_0 24 rfl rfl
theorem dX2_cameMany_0 : decode cX2_cameMany 0 = .ok (.iconst 0, 1) := dk_3 (dk_at dksX2_cameMany_0 0 rfl rfl)
theorem dX2_cameMany_1 : decode cX2_cameMany 1 = .ok (.istore 4, 2) := dk_54 4 (dk_at dksX2_cameMany_0 1 rfl rfl)
theorem dX2_cameMany_3 : decode cX2_cameMany 3 = .ok (.iconst 0, 1) := dk_3 (dk_at dksX2_cameMany_0 3 rfl rfl)
theorem dX2_cameMany_4 : decode cX2_cameMany 4 = .ok (.istore 5, 2) := dk_54 5 (dk_at dksX2_cameMany_0 4 rfl rfl)
theorem dX2_cameMany_6 : decode cX2_cameMany 6 = .ok (.iload 5, 2) := dk_21 5 (dk_at dksX2_cameMany_0 6 rfl rfl)
theorem dX2_cameMany_8 : decode cX2_cameMany 8 = .ok (.iconst 3, 1) := dk_6 (dk_at dksX2_cameMany_0 8 rfl rfl)
theorem dX2_cameMany_9 : decode cX2_cameMany 9 = .ok (.if_icmp .ge 35, 3) := dk_162 0 35 (dk_at dksX2_cameMany_0 9 rfl rfl)
theorem dX2_cameMany_12 : decode cX2_cameMany 12 = .ok (.iload 4, 2) := dk_21 4 (dk_at dksX2_cameMany_0 12 rfl rfl)
theorem dX2_cameMany_14 : decode cX2_cameMany 14 = .ok (.aload_n 0, 1) := dk_42 (dk_at dksX2_cameMany_0 14 rfl rfl)
theorem dX2_cameMany_15 : decode cX2_cameMany 15 = .ok (.iload_n 1, 1) := dk_27 (dk_at dksX2_cameMany_0 15 rfl rfl)
theorem dX2_cameMany_16 : decode cX2_cameMany 16 = .ok (.iload_n 2, 1) := dk_28 (dk_at dksX2_cameMany_0 16 rfl rfl)
theorem dX2_cameMany_17 : decode cX2_cameMany 17 = .ok (.iload_n 3, 1) := dk_29 (dk_at dksX2_cameMany_0 17 rfl rfl)
theorem dX2_cameMany_18 : decode cX2_cameMany 18 = .ok (.iload 5, 2) := dk_21 5 (dk_at dksX2_cameMany_0 18 rfl rfl)
theorem dX2_cameMany_20 : decode cX2_cameMany 20 = .ok (.invokevirtual 244, 3) := dk_182 0 244 (dk_at dksX2_cameMany_0 20 rfl rfl)
theorem dX2_cameMany_23 : decode cX2_cameMany 23 = .ok (.iconst (-1), 1) := dk_2 (dk_at dksX2_cameMany_0 23 rfl rfl)
theorem dX2_cameMany_24 : decode cX2_cameMany 24 = .ok (.if_icmp .eq 7, 3) := dk_159 0 7 (dk_at dksX2_cameMany_1 0 rfl rfl)
theorem dX2_cameMany_27 : decode cX2_cameMany 27 = .ok (.iconst 1, 1) := dk_4 (dk_at dksX2_cameMany_1 3 rfl rfl)
theorem dX2_cameMany_28 : decode cX2_cameMany 28 = .ok (.goto 4, 3) := dk_167 0 4 (dk_at dksX2_cameMany_1 4 rfl rfl)
theorem dX2_cameMany_31 : decode cX2_cameMany 31 = .ok (.iconst 0, 1) := dk_3 (dk_at dksX2_cameMany_1 7 rfl rfl)
theorem dX2_cameMany_32 : decode cX2_cameMany 32 = .ok (.invokestatic 260, 3) := dk_184 1 4 (dk_at dksX2_cameMany_1 8 rfl rfl)
theorem dX2_cameMany_35 : decode cX2_cameMany 35 = .ok (.iadd, 1) := dk_96 (dk_at dksX2_cameMany_1 11 rfl rfl)
theorem dX2_cameMany_36 : decode cX2_cameMany 36 = .ok (.istore 4, 2) := dk_54 4 (dk_at dksX2_cameMany_1 12 rfl rfl)
theorem dX2_cameMany_38 : decode cX2_cameMany 38 = .ok (.iinc 5 1, 3) := dk_132 5 1 (dk_at dksX2_cameMany_1 14 rfl rfl)
theorem dX2_cameMany_41 : decode cX2_cameMany 41 = .ok (.goto (-35), 3) := dk_167 255 221 (dk_at dksX2_cameMany_1 17 rfl rfl)
theorem dX2_cameMany_44 : decode cX2_cameMany 44 = .ok (.iload 4, 2) := dk_21 4 (dk_at dksX2_cameMany_1 20 rfl rfl)
theorem dX2_cameMany_46 : decode cX2_cameMany 46 = .ok (.ireturn, 1) := dk_172 (dk_at dksX2_cameMany_1 22 rfl rfl)
abbrev cX2_allAgree : ByteArray := prog_12_method_92_code
def yX2_allAgree : MethodName := ⟨RX2, "allAgree", "(III)Z"⟩
def dkwX2_allAgree_1 : List UInt8 := [182, 0, 244, 42, 27, 28, 29, 5, 182, 0, 244, 160, 0, 7, 4, 167, 0, 4, 3, 172]
abbrev dktX2_allAgree_1 : List UInt8 := dkwX2_allAgree_1 ++ []
def dkwX2_allAgree_0 : List UInt8 := [42, 27, 28, 29, 3, 182, 0, 244, 42, 27, 28, 29, 4, 182, 0, 244, 160, 0, 26, 42, 27, 28, 29, 4]
abbrev dktX2_allAgree_0 : List UInt8 := dkwX2_allAgree_0 ++ dktX2_allAgree_1
theorem dksX2_allAgree_0 : cX2_allAgree.data.toList.drop 0 = dktX2_allAgree_0 := by decide +kernel
theorem dksX2_allAgree_1 : cX2_allAgree.data.toList.drop 24 = dktX2_allAgree_1 := dk_seg dksX2_allAgree_0 24 rfl rfl
theorem dX2_allAgree_0 : decode cX2_allAgree 0 = .ok (.aload_n 0, 1) := dk_42 (dk_at dksX2_allAgree_0 0 rfl rfl)
theorem dX2_allAgree_1 : decode cX2_allAgree 1 = .ok (.iload_n 1, 1) := dk_27 (dk_at dksX2_allAgree_0 1 rfl rfl)
theorem dX2_allAgree_2 : decode cX2_allAgree 2 = .ok (.iload_n 2, 1) := dk_28 (dk_at dksX2_allAgree_0 2 rfl rfl)
theorem dX2_allAgree_3 : decode cX2_allAgree 3 = .ok (.iload_n 3, 1) := dk_29 (dk_at dksX2_allAgree_0 3 rfl rfl)
theorem dX2_allAgree_4 : decode cX2_allAgree 4 = .ok (.iconst 0, 1) := dk_3 (dk_at dksX2_allAgree_0 4 rfl rfl)
theorem dX2_allAgree_5 : decode cX2_allAgree 5 = .ok (.invokevirtual 244, 3) := dk_182 0 244 (dk_at dksX2_allAgree_0 5 rfl rfl)
theorem dX2_allAgree_8 : decode cX2_allAgree 8 = .ok (.aload_n 0, 1) := dk_42 (dk_at dksX2_allAgree_0 8 rfl rfl)
theorem dX2_allAgree_9 : decode cX2_allAgree 9 = .ok (.iload_n 1, 1) := dk_27 (dk_at dksX2_allAgree_0 9 rfl rfl)
theorem dX2_allAgree_10 : decode cX2_allAgree 10 = .ok (.iload_n 2, 1) := dk_28 (dk_at dksX2_allAgree_0 10 rfl rfl)
theorem dX2_allAgree_11 : decode cX2_allAgree 11 = .ok (.iload_n 3, 1) := dk_29 (dk_at dksX2_allAgree_0 11 rfl rfl)
theorem dX2_allAgree_12 : decode cX2_allAgree 12 = .ok (.iconst 1, 1) := dk_4 (dk_at dksX2_allAgree_0 12 rfl rfl)
theorem dX2_allAgree_13 : decode cX2_allAgree 13 = .ok (.invokevirtual 244, 3) := dk_182 0 244 (dk_at dksX2_allAgree_0 13 rfl rfl)
theorem dX2_allAgree_16 : decode cX2_allAgree 16 = .ok (.if_icmp .ne 26, 3) := dk_160 0 26 (dk_at dksX2_allAgree_0 16 rfl rfl)
theorem dX2_allAgree_19 : decode cX2_allAgree 19 = .ok (.aload_n 0, 1) := dk_42 (dk_at dksX2_allAgree_0 19 rfl rfl)
theorem dX2_allAgree_20 : decode cX2_allAgree 20 = .ok (.iload_n 1, 1) := dk_27 (dk_at dksX2_allAgree_0 20 rfl rfl)
theorem dX2_allAgree_21 : decode cX2_allAgree 21 = .ok (.iload_n 2, 1) := dk_28 (dk_at dksX2_allAgree_0 21 rfl rfl)
theorem dX2_allAgree_22 : decode cX2_allAgree 22 = .ok (.iload_n 3, 1) := dk_29 (dk_at dksX2_allAgree_0 22 rfl rfl)
theorem dX2_allAgree_23 : decode cX2_allAgree 23 = .ok (.iconst 1, 1) := dk_4 (dk_at dksX2_allAgree_0 23 rfl rfl)
theorem dX2_allAgree_24 : decode cX2_allAgree 24 = .ok (.invokevirtual 244, 3) := dk_182 0 244 (dk_at dksX2_allAgree_1 0 rfl rfl)
theorem dX2_allAgree_27 : decode cX2_allAgree 27 = .ok (.aload_n 0, 1) := dk_42 (dk_at dksX2_allAgree_1 3 rfl rfl)
theorem dX2_allAgree_28 : decode cX2_allAgree 28 = .ok (.iload_n 1, 1) := dk_27 (dk_at dksX2_allAgree_1 4 rfl rfl)
theorem dX2_allAgree_29 : decode cX2_allAgree 29 = .ok (.iload_n 2, 1) := dk_28 (dk_at dksX2_allAgree_1 5 rfl rfl)
theorem dX2_allAgree_30 : decode cX2_allAgree 30 = .ok (.iload_n 3, 1) := dk_29 (dk_at dksX2_allAgree_1 6 rfl rfl)
theorem dX2_allAgree_31 : decode cX2_allAgree 31 = .ok (.iconst 2, 1) := dk_5 (dk_at dksX2_allAgree_1 7 rfl rfl)
theorem dX2_allAgree_32 : decode cX2_allAgree 32 = .ok (.invokevirtual 244, 3) := dk_182 0 244 (dk_at dksX2_allAgree_1 8 rfl rfl)
theorem dX2_allAgree_35 : decode cX2_allAgree 35 = .ok (.if_icmp .ne 7, 3) := dk_160 0 7 (dk_at dksX2_allAgree_1 11 rfl rfl)
theorem dX2_allAgree_38 : decode cX2_allAgree 38 = .ok (.iconst 1, 1) := dk_4 (dk_at dksX2_allAgree_1 14 rfl rfl)
theorem dX2_allAgree_39 : decode cX2_allAgree 39 = .ok (.goto 4, 3) := dk_167 0 4 (dk_at dksX2_allAgree_1 15 rfl rfl)
theorem dX2_allAgree_42 : decode cX2_allAgree 42 = .ok (.iconst 0, 1) := dk_3 (dk_at dksX2_allAgree_1 18 rfl rfl)
theorem dX2_allAgree_43 : decode cX2_allAgree 43 = .ok (.ireturn, 1) := dk_172 (dk_at dksX2_allAgree_1 19 rfl rfl)
abbrev cX2_unsure : ByteArray := prog_12_method_95_code
def yX2_unsure : MethodName := ⟨RX2, "unsure", "(II)I"⟩
def dkwX2_unsure_1 : List UInt8 := [167, 0, 4, 3, 182, 1, 37, 153, 0, 12, 42, 27, 28, 182, 1, 8, 167, 0, 4, 3, 172]
abbrev dktX2_unsure_1 : List UInt8 := dkwX2_unsure_1 ++ []
def dkwX2_unsure_0 : List UInt8 := [42, 42, 180, 0, 56, 42, 27, 182, 1, 47, 153, 0, 15, 42, 28, 182, 1, 44, 153, 0, 7, 4]
abbrev dktX2_unsure_0 : List UInt8 := dkwX2_unsure_0 ++ dktX2_unsure_1
theorem dksX2_unsure_0 : cX2_unsure.data.toList.drop 0 = dktX2_unsure_0 := by decide +kernel
theorem dksX2_unsure_1 : cX2_unsure.data.toList.drop 22 = dktX2_unsure_1 := dk_seg dksX2_unsure_0 22 rfl rfl
theorem dX2_unsure_0 : decode cX2_unsure 0 = .ok (.aload_n 0, 1) := dk_42 (dk_at dksX2_unsure_0 0 rfl rfl)
theorem dX2_unsure_1 : decode cX2_unsure 1 = .ok (.aload_n 0, 1) := dk_42 (dk_at dksX2_unsure_0 1 rfl rfl)
theorem dX2_unsure_2 : decode cX2_unsure 2 = .ok (.getfield 56, 3) := dk_180 0 56 (dk_at dksX2_unsure_0 2 rfl rfl)
theorem dX2_unsure_5 : decode cX2_unsure 5 = .ok (.aload_n 0, 1) := dk_42 (dk_at dksX2_unsure_0 5 rfl rfl)
theorem dX2_unsure_6 : decode cX2_unsure 6 = .ok (.iload_n 1, 1) := dk_27 (dk_at dksX2_unsure_0 6 rfl rfl)
theorem dX2_unsure_7 : decode cX2_unsure 7 = .ok (.invokevirtual 303, 3) := dk_182 1 47 (dk_at dksX2_unsure_0 7 rfl rfl)
theorem dX2_unsure_10 : decode cX2_unsure 10 = .ok (.ifCond .eq 15, 3) := dk_153 0 15 (dk_at dksX2_unsure_0 10 rfl rfl)
theorem dX2_unsure_13 : decode cX2_unsure 13 = .ok (.aload_n 0, 1) := dk_42 (dk_at dksX2_unsure_0 13 rfl rfl)
theorem dX2_unsure_14 : decode cX2_unsure 14 = .ok (.iload_n 2, 1) := dk_28 (dk_at dksX2_unsure_0 14 rfl rfl)
theorem dX2_unsure_15 : decode cX2_unsure 15 = .ok (.invokevirtual 300, 3) := dk_182 1 44 (dk_at dksX2_unsure_0 15 rfl rfl)
theorem dX2_unsure_18 : decode cX2_unsure 18 = .ok (.ifCond .eq 7, 3) := dk_153 0 7 (dk_at dksX2_unsure_0 18 rfl rfl)
theorem dX2_unsure_21 : decode cX2_unsure 21 = .ok (.iconst 1, 1) := dk_4 (dk_at dksX2_unsure_0 21 rfl rfl)
theorem dX2_unsure_22 : decode cX2_unsure 22 = .ok (.goto 4, 3) := dk_167 0 4 (dk_at dksX2_unsure_1 0 rfl rfl)
theorem dX2_unsure_25 : decode cX2_unsure 25 = .ok (.iconst 0, 1) := dk_3 (dk_at dksX2_unsure_1 3 rfl rfl)
theorem dX2_unsure_26 : decode cX2_unsure 26 = .ok (.invokevirtual 293, 3) := dk_182 1 37 (dk_at dksX2_unsure_1 4 rfl rfl)
theorem dX2_unsure_29 : decode cX2_unsure 29 = .ok (.ifCond .eq 12, 3) := dk_153 0 12 (dk_at dksX2_unsure_1 7 rfl rfl)
theorem dX2_unsure_32 : decode cX2_unsure 32 = .ok (.aload_n 0, 1) := dk_42 (dk_at dksX2_unsure_1 10 rfl rfl)
theorem dX2_unsure_33 : decode cX2_unsure 33 = .ok (.iload_n 1, 1) := dk_27 (dk_at dksX2_unsure_1 11 rfl rfl)
theorem dX2_unsure_34 : decode cX2_unsure 34 = .ok (.iload_n 2, 1) := dk_28 (dk_at dksX2_unsure_1 12 rfl rfl)
theorem dX2_unsure_35 : decode cX2_unsure 35 = .ok (.invokevirtual 264, 3) := dk_182 1 8 (dk_at dksX2_unsure_1 13 rfl rfl)
theorem dX2_unsure_38 : decode cX2_unsure 38 = .ok (.goto 4, 3) := dk_167 0 4 (dk_at dksX2_unsure_1 16 rfl rfl)
theorem dX2_unsure_41 : decode cX2_unsure 41 = .ok (.iconst 0, 1) := dk_3 (dk_at dksX2_unsure_1 19 rfl rfl)
theorem dX2_unsure_42 : decode cX2_unsure 42 = .ok (.ireturn, 1) := dk_172 (dk_at dksX2_unsure_1 20 rfl rfl)
abbrev cX2_wrong : ByteArray := prog_12_method_96_code
def yX2_wrong : MethodName := ⟨RX2, "wrong", "(II)I"⟩
def dkwX2_wrong_2 : List UInt8 := [27, 28, 182, 1, 70, 100, 167, 0, 4, 3, 172]
abbrev dktX2_wrong_2 : List UInt8 := dkwX2_wrong_2 ++ []
def dkwX2_wrong_1 : List UInt8 := [167, 0, 4, 3, 182, 1, 37, 153, 0, 26, 42, 27, 3, 182, 0, 238, 42, 27, 28, 182, 1, 8, 100, 42]
abbrev dktX2_wrong_1 : List UInt8 := dkwX2_wrong_1 ++ dktX2_wrong_2
def dkwX2_wrong_0 : List UInt8 := [42, 42, 180, 0, 56, 42, 27, 182, 1, 47, 153, 0, 15, 42, 28, 182, 1, 44, 153, 0, 7, 4]
abbrev dktX2_wrong_0 : List UInt8 := dkwX2_wrong_0 ++ dktX2_wrong_1
theorem dksX2_wrong_0 : cX2_wrong.data.toList.drop 0 = dktX2_wrong_0 := by decide +kernel
theorem dksX2_wrong_1 : cX2_wrong.data.toList.drop 22 = dktX2_wrong_1 := dk_seg dksX2_wrong_0 22 rfl rfl
theorem dksX2_wrong_2 : cX2_wrong.data.toList.drop 46 = dktX2_wrong_2 := dk_seg dksX2_wrong_1 24 rfl rfl
theorem dX2_wrong_0 : decode cX2_wrong 0 = .ok (.aload_n 0, 1) := dk_42 (dk_at dksX2_wrong_0 0 rfl rfl)
theorem dX2_wrong_1 : decode cX2_wrong 1 = .ok (.aload_n 0, 1) := dk_42 (dk_at dksX2_wrong_0 1 rfl rfl)
theorem dX2_wrong_2 : decode cX2_wrong 2 = .ok (.getfield 56, 3) := dk_180 0 56 (dk_at dksX2_wrong_0 2 rfl rfl)
theorem dX2_wrong_5 : decode cX2_wrong 5 = .ok (.aload_n 0, 1) := dk_42 (dk_at dksX2_wrong_0 5 rfl rfl)
theorem dX2_wrong_6 : decode cX2_wrong 6 = .ok (.iload_n 1, 1) := dk_27 (dk_at dksX2_wrong_0 6 rfl rfl)
theorem dX2_wrong_7 : decode cX2_wrong 7 = .ok (.invokevirtual 303, 3) := dk_182 1 47 (dk_at dksX2_wrong_0 7 rfl rfl)
theorem dX2_wrong_10 : decode cX2_wrong 10 = .ok (.ifCond .eq 15, 3) := dk_153 0 15 (dk_at dksX2_wrong_0 10 rfl rfl)
theorem dX2_wrong_13 : decode cX2_wrong 13 = .ok (.aload_n 0, 1) := dk_42 (dk_at dksX2_wrong_0 13 rfl rfl)
theorem dX2_wrong_14 : decode cX2_wrong 14 = .ok (.iload_n 2, 1) := dk_28 (dk_at dksX2_wrong_0 14 rfl rfl)
theorem dX2_wrong_15 : decode cX2_wrong 15 = .ok (.invokevirtual 300, 3) := dk_182 1 44 (dk_at dksX2_wrong_0 15 rfl rfl)
theorem dX2_wrong_18 : decode cX2_wrong 18 = .ok (.ifCond .eq 7, 3) := dk_153 0 7 (dk_at dksX2_wrong_0 18 rfl rfl)
theorem dX2_wrong_21 : decode cX2_wrong 21 = .ok (.iconst 1, 1) := dk_4 (dk_at dksX2_wrong_0 21 rfl rfl)
theorem dX2_wrong_22 : decode cX2_wrong 22 = .ok (.goto 4, 3) := dk_167 0 4 (dk_at dksX2_wrong_1 0 rfl rfl)
theorem dX2_wrong_25 : decode cX2_wrong 25 = .ok (.iconst 0, 1) := dk_3 (dk_at dksX2_wrong_1 3 rfl rfl)
theorem dX2_wrong_26 : decode cX2_wrong 26 = .ok (.invokevirtual 293, 3) := dk_182 1 37 (dk_at dksX2_wrong_1 4 rfl rfl)
theorem dX2_wrong_29 : decode cX2_wrong 29 = .ok (.ifCond .eq 26, 3) := dk_153 0 26 (dk_at dksX2_wrong_1 7 rfl rfl)
theorem dX2_wrong_32 : decode cX2_wrong 32 = .ok (.aload_n 0, 1) := dk_42 (dk_at dksX2_wrong_1 10 rfl rfl)
theorem dX2_wrong_33 : decode cX2_wrong 33 = .ok (.iload_n 1, 1) := dk_27 (dk_at dksX2_wrong_1 11 rfl rfl)
theorem dX2_wrong_34 : decode cX2_wrong 34 = .ok (.iconst 0, 1) := dk_3 (dk_at dksX2_wrong_1 12 rfl rfl)
theorem dX2_wrong_35 : decode cX2_wrong 35 = .ok (.invokevirtual 238, 3) := dk_182 0 238 (dk_at dksX2_wrong_1 13 rfl rfl)
theorem dX2_wrong_38 : decode cX2_wrong 38 = .ok (.aload_n 0, 1) := dk_42 (dk_at dksX2_wrong_1 16 rfl rfl)
theorem dX2_wrong_39 : decode cX2_wrong 39 = .ok (.iload_n 1, 1) := dk_27 (dk_at dksX2_wrong_1 17 rfl rfl)
theorem dX2_wrong_40 : decode cX2_wrong 40 = .ok (.iload_n 2, 1) := dk_28 (dk_at dksX2_wrong_1 18 rfl rfl)
theorem dX2_wrong_41 : decode cX2_wrong 41 = .ok (.invokevirtual 264, 3) := dk_182 1 8 (dk_at dksX2_wrong_1 19 rfl rfl)
theorem dX2_wrong_44 : decode cX2_wrong 44 = .ok (.isub, 1) := dk_100 (dk_at dksX2_wrong_1 22 rfl rfl)
theorem dX2_wrong_45 : decode cX2_wrong 45 = .ok (.aload_n 0, 1) := dk_42 (dk_at dksX2_wrong_1 23 rfl rfl)
theorem dX2_wrong_46 : decode cX2_wrong 46 = .ok (.iload_n 1, 1) := dk_27 (dk_at dksX2_wrong_2 0 rfl rfl)
theorem dX2_wrong_47 : decode cX2_wrong 47 = .ok (.iload_n 2, 1) := dk_28 (dk_at dksX2_wrong_2 1 rfl rfl)
theorem dX2_wrong_48 : decode cX2_wrong 48 = .ok (.invokevirtual 326, 3) := dk_182 1 70 (dk_at dksX2_wrong_2 2 rfl rfl)
theorem dX2_wrong_51 : decode cX2_wrong 51 = .ok (.isub, 1) := dk_100 (dk_at dksX2_wrong_2 5 rfl rfl)
theorem dX2_wrong_52 : decode cX2_wrong 52 = .ok (.goto 4, 3) := dk_167 0 4 (dk_at dksX2_wrong_2 6 rfl rfl)
theorem dX2_wrong_55 : decode cX2_wrong 55 = .ok (.iconst 0, 1) := dk_3 (dk_at dksX2_wrong_2 9 rfl rfl)
theorem dX2_wrong_56 : decode cX2_wrong 56 = .ok (.ireturn, 1) := dk_172 (dk_at dksX2_wrong_2 10 rfl rfl)
abbrev cX2_believed : ByteArray := prog_12_method_98_code
def yX2_believed : MethodName := ⟨RX2, "believed", "(II)I"⟩
def dkwX2_believed_1 : List UInt8 := [167, 0, 4, 3, 172]
abbrev dktX2_believed_1 : List UInt8 := dkwX2_believed_1 ++ []
def dkwX2_believed_0 : List UInt8 := [42, 42, 180, 0, 56, 42, 27, 28, 182, 1, 76, 182, 1, 37, 153, 0, 12, 42, 27, 28, 182, 1, 91]
abbrev dktX2_believed_0 : List UInt8 := dkwX2_believed_0 ++ dktX2_believed_1
theorem dksX2_believed_0 : cX2_believed.data.toList.drop 0 = dktX2_believed_0 := by decide +kernel
theorem dksX2_believed_1 : cX2_believed.data.toList.drop 23 = dktX2_believed_1 := dk_seg dksX2_believed_0 23 rfl rfl
theorem dX2_believed_0 : decode cX2_believed 0 = .ok (.aload_n 0, 1) := dk_42 (dk_at dksX2_believed_0 0 rfl rfl)
theorem dX2_believed_1 : decode cX2_believed 1 = .ok (.aload_n 0, 1) := dk_42 (dk_at dksX2_believed_0 1 rfl rfl)
theorem dX2_believed_2 : decode cX2_believed 2 = .ok (.getfield 56, 3) := dk_180 0 56 (dk_at dksX2_believed_0 2 rfl rfl)
theorem dX2_believed_5 : decode cX2_believed 5 = .ok (.aload_n 0, 1) := dk_42 (dk_at dksX2_believed_0 5 rfl rfl)
theorem dX2_believed_6 : decode cX2_believed 6 = .ok (.iload_n 1, 1) := dk_27 (dk_at dksX2_believed_0 6 rfl rfl)
theorem dX2_believed_7 : decode cX2_believed 7 = .ok (.iload_n 2, 1) := dk_28 (dk_at dksX2_believed_0 7 rfl rfl)
theorem dX2_believed_8 : decode cX2_believed 8 = .ok (.invokevirtual 332, 3) := dk_182 1 76 (dk_at dksX2_believed_0 8 rfl rfl)
theorem dX2_believed_11 : decode cX2_believed 11 = .ok (.invokevirtual 293, 3) := dk_182 1 37 (dk_at dksX2_believed_0 11 rfl rfl)
theorem dX2_believed_14 : decode cX2_believed 14 = .ok (.ifCond .eq 12, 3) := dk_153 0 12 (dk_at dksX2_believed_0 14 rfl rfl)
theorem dX2_believed_17 : decode cX2_believed 17 = .ok (.aload_n 0, 1) := dk_42 (dk_at dksX2_believed_0 17 rfl rfl)
theorem dX2_believed_18 : decode cX2_believed 18 = .ok (.iload_n 1, 1) := dk_27 (dk_at dksX2_believed_0 18 rfl rfl)
theorem dX2_believed_19 : decode cX2_believed 19 = .ok (.iload_n 2, 1) := dk_28 (dk_at dksX2_believed_0 19 rfl rfl)
theorem dX2_believed_20 : decode cX2_believed 20 = .ok (.invokevirtual 347, 3) := dk_182 1 91 (dk_at dksX2_believed_0 20 rfl rfl)
theorem dX2_believed_23 : decode cX2_believed 23 = .ok (.goto 4, 3) := dk_167 0 4 (dk_at dksX2_believed_1 0 rfl rfl)
theorem dX2_believed_26 : decode cX2_believed 26 = .ok (.iconst 0, 1) := dk_3 (dk_at dksX2_believed_1 3 rfl rfl)
theorem dX2_believed_27 : decode cX2_believed 27 = .ok (.ireturn, 1) := dk_172 (dk_at dksX2_believed_1 4 rfl rfl)
abbrev cX2_believedAt : ByteArray := prog_12_method_97_code
def yX2_believedAt : MethodName := ⟨RX2, "believedAt", "(II)I"⟩
def dkwX2_believedAt_1 : List UInt8 := [172]
abbrev dktX2_believedAt_1 : List UInt8 := dkwX2_believedAt_1 ++ []
def dkwX2_believedAt_0 : List UInt8 := [42, 27, 3, 28, 182, 1, 1, 42, 27, 4, 28, 182, 1, 1, 42, 27, 5, 28, 182, 1, 1, 184, 0, 248]
abbrev dktX2_believedAt_0 : List UInt8 := dkwX2_believedAt_0 ++ dktX2_believedAt_1
theorem dksX2_believedAt_0 : cX2_believedAt.data.toList.drop 0 = dktX2_believedAt_0 := by decide +kernel
theorem dksX2_believedAt_1 : cX2_believedAt.data.toList.drop 24 = dktX2_believedAt_1 := dk_seg dksX2_believedAt_0 24 rfl rfl
theorem dX2_believedAt_0 : decode cX2_believedAt 0 = .ok (.aload_n 0, 1) := dk_42 (dk_at dksX2_believedAt_0 0 rfl rfl)
theorem dX2_believedAt_1 : decode cX2_believedAt 1 = .ok (.iload_n 1, 1) := dk_27 (dk_at dksX2_believedAt_0 1 rfl rfl)
theorem dX2_believedAt_2 : decode cX2_believedAt 2 = .ok (.iconst 0, 1) := dk_3 (dk_at dksX2_believedAt_0 2 rfl rfl)
theorem dX2_believedAt_3 : decode cX2_believedAt 3 = .ok (.iload_n 2, 1) := dk_28 (dk_at dksX2_believedAt_0 3 rfl rfl)
theorem dX2_believedAt_4 : decode cX2_believedAt 4 = .ok (.invokevirtual 257, 3) := dk_182 1 1 (dk_at dksX2_believedAt_0 4 rfl rfl)
theorem dX2_believedAt_7 : decode cX2_believedAt 7 = .ok (.aload_n 0, 1) := dk_42 (dk_at dksX2_believedAt_0 7 rfl rfl)
theorem dX2_believedAt_8 : decode cX2_believedAt 8 = .ok (.iload_n 1, 1) := dk_27 (dk_at dksX2_believedAt_0 8 rfl rfl)
theorem dX2_believedAt_9 : decode cX2_believedAt 9 = .ok (.iconst 1, 1) := dk_4 (dk_at dksX2_believedAt_0 9 rfl rfl)
theorem dX2_believedAt_10 : decode cX2_believedAt 10 = .ok (.iload_n 2, 1) := dk_28 (dk_at dksX2_believedAt_0 10 rfl rfl)
theorem dX2_believedAt_11 : decode cX2_believedAt 11 = .ok (.invokevirtual 257, 3) := dk_182 1 1 (dk_at dksX2_believedAt_0 11 rfl rfl)
theorem dX2_believedAt_14 : decode cX2_believedAt 14 = .ok (.aload_n 0, 1) := dk_42 (dk_at dksX2_believedAt_0 14 rfl rfl)
theorem dX2_believedAt_15 : decode cX2_believedAt 15 = .ok (.iload_n 1, 1) := dk_27 (dk_at dksX2_believedAt_0 15 rfl rfl)
theorem dX2_believedAt_16 : decode cX2_believedAt 16 = .ok (.iconst 2, 1) := dk_5 (dk_at dksX2_believedAt_0 16 rfl rfl)
theorem dX2_believedAt_17 : decode cX2_believedAt 17 = .ok (.iload_n 2, 1) := dk_28 (dk_at dksX2_believedAt_0 17 rfl rfl)
theorem dX2_believedAt_18 : decode cX2_believedAt 18 = .ok (.invokevirtual 257, 3) := dk_182 1 1 (dk_at dksX2_believedAt_0 18 rfl rfl)
theorem dX2_believedAt_21 : decode cX2_believedAt 21 = .ok (.invokestatic 248, 3) := dk_184 0 248 (dk_at dksX2_believedAt_0 21 rfl rfl)
theorem dX2_believedAt_24 : decode cX2_believedAt 24 = .ok (.ireturn, 1) := dk_172 (dk_at dksX2_believedAt_1 0 rfl rfl)
abbrev cX2_right : ByteArray := prog_12_method_100_code
def yX2_right : MethodName := ⟨RX2, "right", "(I)I"⟩
def dkwX2_right_0 : List UInt8 := [42, 27, 182, 1, 94, 153, 0, 11, 42, 27, 182, 1, 97, 167, 0, 4, 3, 172]
abbrev dktX2_right_0 : List UInt8 := dkwX2_right_0 ++ []
theorem dksX2_right_0 : cX2_right.data.toList.drop 0 = dktX2_right_0 := by decide +kernel
theorem dX2_right_0 : decode cX2_right 0 = .ok (.aload_n 0, 1) := dk_42 (dk_at dksX2_right_0 0 rfl rfl)
theorem dX2_right_1 : decode cX2_right 1 = .ok (.iload_n 1, 1) := dk_27 (dk_at dksX2_right_0 1 rfl rfl)
theorem dX2_right_2 : decode cX2_right 2 = .ok (.invokevirtual 350, 3) := dk_182 1 94 (dk_at dksX2_right_0 2 rfl rfl)
theorem dX2_right_5 : decode cX2_right 5 = .ok (.ifCond .eq 11, 3) := dk_153 0 11 (dk_at dksX2_right_0 5 rfl rfl)
theorem dX2_right_8 : decode cX2_right 8 = .ok (.aload_n 0, 1) := dk_42 (dk_at dksX2_right_0 8 rfl rfl)
theorem dX2_right_9 : decode cX2_right 9 = .ok (.iload_n 1, 1) := dk_27 (dk_at dksX2_right_0 9 rfl rfl)
theorem dX2_right_10 : decode cX2_right 10 = .ok (.invokevirtual 353, 3) := dk_182 1 97 (dk_at dksX2_right_0 10 rfl rfl)
theorem dX2_right_13 : decode cX2_right 13 = .ok (.goto 4, 3) := dk_167 0 4 (dk_at dksX2_right_0 13 rfl rfl)
theorem dX2_right_16 : decode cX2_right 16 = .ok (.iconst 0, 1) := dk_3 (dk_at dksX2_right_0 16 rfl rfl)
theorem dX2_right_17 : decode cX2_right 17 = .ok (.ireturn, 1) := dk_172 (dk_at dksX2_right_0 17 rfl rfl)
abbrev cX2_mayMessage : ByteArray := prog_12_method_82_code
def yX2_mayMessage : MethodName := ⟨RX2, "mayMessage", "(I)Z"⟩
def dkwX2_mayMessage_0 : List UInt8 := [42, 42, 180, 0, 56, 42, 27, 182, 1, 47, 182, 1, 37, 172]
abbrev dktX2_mayMessage_0 : List UInt8 := dkwX2_mayMessage_0 ++ []
theorem dksX2_mayMessage_0 : cX2_mayMessage.data.toList.drop 0 = dktX2_mayMessage_0 := by decide +kernel
theorem dX2_mayMessage_0 : decode cX2_mayMessage 0 = .ok (.aload_n 0, 1) := dk_42 (dk_at dksX2_mayMessage_0 0 rfl rfl)
theorem dX2_mayMessage_1 : decode cX2_mayMessage 1 = .ok (.aload_n 0, 1) := dk_42 (dk_at dksX2_mayMessage_0 1 rfl rfl)
theorem dX2_mayMessage_2 : decode cX2_mayMessage 2 = .ok (.getfield 56, 3) := dk_180 0 56 (dk_at dksX2_mayMessage_0 2 rfl rfl)
theorem dX2_mayMessage_5 : decode cX2_mayMessage 5 = .ok (.aload_n 0, 1) := dk_42 (dk_at dksX2_mayMessage_0 5 rfl rfl)
theorem dX2_mayMessage_6 : decode cX2_mayMessage 6 = .ok (.iload_n 1, 1) := dk_27 (dk_at dksX2_mayMessage_0 6 rfl rfl)
theorem dX2_mayMessage_7 : decode cX2_mayMessage 7 = .ok (.invokevirtual 303, 3) := dk_182 1 47 (dk_at dksX2_mayMessage_0 7 rfl rfl)
theorem dX2_mayMessage_10 : decode cX2_mayMessage 10 = .ok (.invokevirtual 293, 3) := dk_182 1 37 (dk_at dksX2_mayMessage_0 10 rfl rfl)
theorem dX2_mayMessage_13 : decode cX2_mayMessage 13 = .ok (.ireturn, 1) := dk_172 (dk_at dksX2_mayMessage_0 13 rfl rfl)
abbrev cX2_rightPlaces : ByteArray := prog_12_method_99_code
def yX2_rightPlaces : MethodName := ⟨RX2, "rightPlaces", "(I)I"⟩
def dkwX2_rightPlaces_1 : List UInt8 := [182, 1, 67, 160, 0, 7, 4, 167, 0, 4, 3, 184, 1, 4, 96, 61, 132, 3, 1, 167, 255, 217, 28, 172]
abbrev dktX2_rightPlaces_1 : List UInt8 := dkwX2_rightPlaces_1 ++ []
def dkwX2_rightPlaces_0 : List UInt8 := [3, 61, 3, 62, 29, 42, 27, 3, 182, 0, 238, 162, 0, 35, 28, 42, 27, 29, 182, 1, 91, 42, 27, 29]
abbrev dktX2_rightPlaces_0 : List UInt8 := dkwX2_rightPlaces_0 ++ dktX2_rightPlaces_1
theorem dksX2_rightPlaces_0 : cX2_rightPlaces.data.toList.drop 0 = dktX2_rightPlaces_0 := by decide +kernel
theorem dksX2_rightPlaces_1 : cX2_rightPlaces.data.toList.drop 24 = dktX2_rightPlaces_1 := dk_seg dksX2_rightPlaces_0 24 rfl rfl
theorem dX2_rightPlaces_0 : decode cX2_rightPlaces 0 = .ok (.iconst 0, 1) := dk_3 (dk_at dksX2_rightPlaces_0 0 rfl rfl)
theorem dX2_rightPlaces_1 : decode cX2_rightPlaces 1 = .ok (.istore_n 2, 1) := dk_61 (dk_at dksX2_rightPlaces_0 1 rfl rfl)
theorem dX2_rightPlaces_2 : decode cX2_rightPlaces 2 = .ok (.iconst 0, 1) := dk_3 (dk_at dksX2_rightPlaces_0 2 rfl rfl)
theorem dX2_rightPlaces_3 : decode cX2_rightPlaces 3 = .ok (.istore_n 3, 1) := dk_62 (dk_at dksX2_rightPlaces_0 3 rfl rfl)
theorem dX2_rightPlaces_4 : decode cX2_rightPlaces 4 = .ok (.iload_n 3, 1) := dk_29 (dk_at dksX2_rightPlaces_0 4 rfl rfl)
theorem dX2_rightPlaces_5 : decode cX2_rightPlaces 5 = .ok (.aload_n 0, 1) := dk_42 (dk_at dksX2_rightPlaces_0 5 rfl rfl)
theorem dX2_rightPlaces_6 : decode cX2_rightPlaces 6 = .ok (.iload_n 1, 1) := dk_27 (dk_at dksX2_rightPlaces_0 6 rfl rfl)
theorem dX2_rightPlaces_7 : decode cX2_rightPlaces 7 = .ok (.iconst 0, 1) := dk_3 (dk_at dksX2_rightPlaces_0 7 rfl rfl)
theorem dX2_rightPlaces_8 : decode cX2_rightPlaces 8 = .ok (.invokevirtual 238, 3) := dk_182 0 238 (dk_at dksX2_rightPlaces_0 8 rfl rfl)
theorem dX2_rightPlaces_11 : decode cX2_rightPlaces 11 = .ok (.if_icmp .ge 35, 3) := dk_162 0 35 (dk_at dksX2_rightPlaces_0 11 rfl rfl)
theorem dX2_rightPlaces_14 : decode cX2_rightPlaces 14 = .ok (.iload_n 2, 1) := dk_28 (dk_at dksX2_rightPlaces_0 14 rfl rfl)
theorem dX2_rightPlaces_15 : decode cX2_rightPlaces 15 = .ok (.aload_n 0, 1) := dk_42 (dk_at dksX2_rightPlaces_0 15 rfl rfl)
theorem dX2_rightPlaces_16 : decode cX2_rightPlaces 16 = .ok (.iload_n 1, 1) := dk_27 (dk_at dksX2_rightPlaces_0 16 rfl rfl)
theorem dX2_rightPlaces_17 : decode cX2_rightPlaces 17 = .ok (.iload_n 3, 1) := dk_29 (dk_at dksX2_rightPlaces_0 17 rfl rfl)
theorem dX2_rightPlaces_18 : decode cX2_rightPlaces 18 = .ok (.invokevirtual 347, 3) := dk_182 1 91 (dk_at dksX2_rightPlaces_0 18 rfl rfl)
theorem dX2_rightPlaces_21 : decode cX2_rightPlaces 21 = .ok (.aload_n 0, 1) := dk_42 (dk_at dksX2_rightPlaces_0 21 rfl rfl)
theorem dX2_rightPlaces_22 : decode cX2_rightPlaces 22 = .ok (.iload_n 1, 1) := dk_27 (dk_at dksX2_rightPlaces_0 22 rfl rfl)
theorem dX2_rightPlaces_23 : decode cX2_rightPlaces 23 = .ok (.iload_n 3, 1) := dk_29 (dk_at dksX2_rightPlaces_0 23 rfl rfl)
theorem dX2_rightPlaces_24 : decode cX2_rightPlaces 24 = .ok (.invokevirtual 323, 3) := dk_182 1 67 (dk_at dksX2_rightPlaces_1 0 rfl rfl)
theorem dX2_rightPlaces_27 : decode cX2_rightPlaces 27 = .ok (.if_icmp .ne 7, 3) := dk_160 0 7 (dk_at dksX2_rightPlaces_1 3 rfl rfl)
theorem dX2_rightPlaces_30 : decode cX2_rightPlaces 30 = .ok (.iconst 1, 1) := dk_4 (dk_at dksX2_rightPlaces_1 6 rfl rfl)
theorem dX2_rightPlaces_31 : decode cX2_rightPlaces 31 = .ok (.goto 4, 3) := dk_167 0 4 (dk_at dksX2_rightPlaces_1 7 rfl rfl)
theorem dX2_rightPlaces_34 : decode cX2_rightPlaces 34 = .ok (.iconst 0, 1) := dk_3 (dk_at dksX2_rightPlaces_1 10 rfl rfl)
theorem dX2_rightPlaces_35 : decode cX2_rightPlaces 35 = .ok (.invokestatic 260, 3) := dk_184 1 4 (dk_at dksX2_rightPlaces_1 11 rfl rfl)
theorem dX2_rightPlaces_38 : decode cX2_rightPlaces 38 = .ok (.iadd, 1) := dk_96 (dk_at dksX2_rightPlaces_1 14 rfl rfl)
theorem dX2_rightPlaces_39 : decode cX2_rightPlaces 39 = .ok (.istore_n 2, 1) := dk_61 (dk_at dksX2_rightPlaces_1 15 rfl rfl)
theorem dX2_rightPlaces_40 : decode cX2_rightPlaces 40 = .ok (.iinc 3 1, 3) := dk_132 3 1 (dk_at dksX2_rightPlaces_1 16 rfl rfl)
theorem dX2_rightPlaces_43 : decode cX2_rightPlaces 43 = .ok (.goto (-39), 3) := dk_167 255 217 (dk_at dksX2_rightPlaces_1 19 rfl rfl)
theorem dX2_rightPlaces_46 : decode cX2_rightPlaces 46 = .ok (.iload_n 2, 1) := dk_28 (dk_at dksX2_rightPlaces_1 22 rfl rfl)
theorem dX2_rightPlaces_47 : decode cX2_rightPlaces 47 = .ok (.ireturn, 1) := dk_172 (dk_at dksX2_rightPlaces_1 23 rfl rfl)
abbrev cX2_liar : ByteArray := prog_12_method_102_code
def yX2_liar : MethodName := ⟨RX2, "liar", "(I)I"⟩
def dkwX2_liar_2 : List UInt8 := [132, 4, 1, 167, 255, 222, 28, 172]
abbrev dktX2_liar_2 : List UInt8 := dkwX2_liar_2 ++ []
def dkwX2_liar_1 : List UInt8 := [27, 21, 4, 182, 1, 100, 29, 163, 0, 6, 167, 0, 14, 42, 27, 21, 4, 182, 1, 100, 62, 21, 4, 61]
abbrev dktX2_liar_1 : List UInt8 := dkwX2_liar_1 ++ dktX2_liar_2
def dkwX2_liar_0 : List UInt8 := [42, 27, 182, 1, 94, 154, 0, 5, 3, 172, 2, 61, 3, 62, 3, 54, 4, 21, 4, 6, 162, 0, 34, 42]
abbrev dktX2_liar_0 : List UInt8 := dkwX2_liar_0 ++ dktX2_liar_1
theorem dksX2_liar_0 : cX2_liar.data.toList.drop 0 = dktX2_liar_0 := by decide +kernel
theorem dksX2_liar_1 : cX2_liar.data.toList.drop 24 = dktX2_liar_1 := dk_seg dksX2_liar_0 24 rfl rfl
theorem dksX2_liar_2 : cX2_liar.data.toList.drop 48 = dktX2_liar_2 := dk_seg dksX2_liar_1 24 rfl rfl
theorem dX2_liar_0 : decode cX2_liar 0 = .ok (.aload_n 0, 1) := dk_42 (dk_at dksX2_liar_0 0 rfl rfl)
theorem dX2_liar_1 : decode cX2_liar 1 = .ok (.iload_n 1, 1) := dk_27 (dk_at dksX2_liar_0 1 rfl rfl)
theorem dX2_liar_2 : decode cX2_liar 2 = .ok (.invokevirtual 350, 3) := dk_182 1 94 (dk_at dksX2_liar_0 2 rfl rfl)
theorem dX2_liar_5 : decode cX2_liar 5 = .ok (.ifCond .ne 5, 3) := dk_154 0 5 (dk_at dksX2_liar_0 5 rfl rfl)
theorem dX2_liar_8 : decode cX2_liar 8 = .ok (.iconst 0, 1) := dk_3 (dk_at dksX2_liar_0 8 rfl rfl)
theorem dX2_liar_9 : decode cX2_liar 9 = .ok (.ireturn, 1) := dk_172 (dk_at dksX2_liar_0 9 rfl rfl)
theorem dX2_liar_10 : decode cX2_liar 10 = .ok (.iconst (-1), 1) := dk_2 (dk_at dksX2_liar_0 10 rfl rfl)
theorem dX2_liar_11 : decode cX2_liar 11 = .ok (.istore_n 2, 1) := dk_61 (dk_at dksX2_liar_0 11 rfl rfl)
theorem dX2_liar_12 : decode cX2_liar 12 = .ok (.iconst 0, 1) := dk_3 (dk_at dksX2_liar_0 12 rfl rfl)
theorem dX2_liar_13 : decode cX2_liar 13 = .ok (.istore_n 3, 1) := dk_62 (dk_at dksX2_liar_0 13 rfl rfl)
theorem dX2_liar_14 : decode cX2_liar 14 = .ok (.iconst 0, 1) := dk_3 (dk_at dksX2_liar_0 14 rfl rfl)
theorem dX2_liar_15 : decode cX2_liar 15 = .ok (.istore 4, 2) := dk_54 4 (dk_at dksX2_liar_0 15 rfl rfl)
theorem dX2_liar_17 : decode cX2_liar 17 = .ok (.iload 4, 2) := dk_21 4 (dk_at dksX2_liar_0 17 rfl rfl)
theorem dX2_liar_19 : decode cX2_liar 19 = .ok (.iconst 3, 1) := dk_6 (dk_at dksX2_liar_0 19 rfl rfl)
theorem dX2_liar_20 : decode cX2_liar 20 = .ok (.if_icmp .ge 34, 3) := dk_162 0 34 (dk_at dksX2_liar_0 20 rfl rfl)
theorem dX2_liar_23 : decode cX2_liar 23 = .ok (.aload_n 0, 1) := dk_42 (dk_at dksX2_liar_0 23 rfl rfl)
theorem dX2_liar_24 : decode cX2_liar 24 = .ok (.iload_n 1, 1) := dk_27 (dk_at dksX2_liar_1 0 rfl rfl)
theorem dX2_liar_25 : decode cX2_liar 25 = .ok (.iload 4, 2) := dk_21 4 (dk_at dksX2_liar_1 1 rfl rfl)
theorem dX2_liar_27 : decode cX2_liar 27 = .ok (.invokevirtual 356, 3) := dk_182 1 100 (dk_at dksX2_liar_1 3 rfl rfl)
theorem dX2_liar_30 : decode cX2_liar 30 = .ok (.iload_n 3, 1) := dk_29 (dk_at dksX2_liar_1 6 rfl rfl)
theorem dX2_liar_31 : decode cX2_liar 31 = .ok (.if_icmp .gt 6, 3) := dk_163 0 6 (dk_at dksX2_liar_1 7 rfl rfl)
theorem dX2_liar_34 : decode cX2_liar 34 = .ok (.goto 14, 3) := dk_167 0 14 (dk_at dksX2_liar_1 10 rfl rfl)
theorem dX2_liar_37 : decode cX2_liar 37 = .ok (.aload_n 0, 1) := dk_42 (dk_at dksX2_liar_1 13 rfl rfl)
theorem dX2_liar_38 : decode cX2_liar 38 = .ok (.iload_n 1, 1) := dk_27 (dk_at dksX2_liar_1 14 rfl rfl)
theorem dX2_liar_39 : decode cX2_liar 39 = .ok (.iload 4, 2) := dk_21 4 (dk_at dksX2_liar_1 15 rfl rfl)
theorem dX2_liar_41 : decode cX2_liar 41 = .ok (.invokevirtual 356, 3) := dk_182 1 100 (dk_at dksX2_liar_1 17 rfl rfl)
theorem dX2_liar_44 : decode cX2_liar 44 = .ok (.istore_n 3, 1) := dk_62 (dk_at dksX2_liar_1 20 rfl rfl)
theorem dX2_liar_45 : decode cX2_liar 45 = .ok (.iload 4, 2) := dk_21 4 (dk_at dksX2_liar_1 21 rfl rfl)
theorem dX2_liar_47 : decode cX2_liar 47 = .ok (.istore_n 2, 1) := dk_61 (dk_at dksX2_liar_1 23 rfl rfl)
theorem dX2_liar_48 : decode cX2_liar 48 = .ok (.iinc 4 1, 3) := dk_132 4 1 (dk_at dksX2_liar_2 0 rfl rfl)
theorem dX2_liar_51 : decode cX2_liar 51 = .ok (.goto (-34), 3) := dk_167 255 222 (dk_at dksX2_liar_2 3 rfl rfl)
theorem dX2_liar_54 : decode cX2_liar 54 = .ok (.iload_n 2, 1) := dk_28 (dk_at dksX2_liar_2 6 rfl rfl)
theorem dX2_liar_55 : decode cX2_liar 55 = .ok (.ireturn, 1) := dk_172 (dk_at dksX2_liar_2 7 rfl rfl)
abbrev cX2_liesOf : ByteArray := prog_12_method_101_code
def yX2_liesOf : MethodName := ⟨RX2, "liesOf", "(II)I"⟩
def dkwX2_liesOf_2 : List UInt8 := [167, 0, 4, 3, 184, 1, 4, 96, 62, 132, 4, 1, 167, 255, 202, 29, 172]
abbrev dktX2_liesOf_2 : List UInt8 := dkwX2_liesOf_2 ++ []
def dkwX2_liesOf_1 : List UInt8 := [2, 159, 0, 25, 42, 27, 28, 21, 4, 182, 1, 1, 42, 27, 21, 4, 182, 1, 91, 159, 0, 7, 4]
abbrev dktX2_liesOf_1 : List UInt8 := dkwX2_liesOf_1 ++ dktX2_liesOf_2
def dkwX2_liesOf_0 : List UInt8 := [3, 62, 3, 54, 4, 21, 4, 42, 27, 3, 182, 0, 238, 162, 0, 49, 29, 42, 27, 21, 4, 182, 1, 91]
abbrev dktX2_liesOf_0 : List UInt8 := dkwX2_liesOf_0 ++ dktX2_liesOf_1
theorem dksX2_liesOf_0 : cX2_liesOf.data.toList.drop 0 = dktX2_liesOf_0 := by decide +kernel
theorem dksX2_liesOf_1 : cX2_liesOf.data.toList.drop 24 = dktX2_liesOf_1 := dk_seg dksX2_liesOf_0 24 rfl rfl
theorem dksX2_liesOf_2 : cX2_liesOf.data.toList.drop 47 = dktX2_liesOf_2 := dk_seg dksX2_liesOf_1 23 rfl rfl
theorem dX2_liesOf_0 : decode cX2_liesOf 0 = .ok (.iconst 0, 1) := dk_3 (dk_at dksX2_liesOf_0 0 rfl rfl)
theorem dX2_liesOf_1 : decode cX2_liesOf 1 = .ok (.istore_n 3, 1) := dk_62 (dk_at dksX2_liesOf_0 1 rfl rfl)
theorem dX2_liesOf_2 : decode cX2_liesOf 2 = .ok (.iconst 0, 1) := dk_3 (dk_at dksX2_liesOf_0 2 rfl rfl)
theorem dX2_liesOf_3 : decode cX2_liesOf 3 = .ok (.istore 4, 2) := dk_54 4 (dk_at dksX2_liesOf_0 3 rfl rfl)
theorem dX2_liesOf_5 : decode cX2_liesOf 5 = .ok (.iload 4, 2) := dk_21 4 (dk_at dksX2_liesOf_0 5 rfl rfl)
theorem dX2_liesOf_7 : decode cX2_liesOf 7 = .ok (.aload_n 0, 1) := dk_42 (dk_at dksX2_liesOf_0 7 rfl rfl)
theorem dX2_liesOf_8 : decode cX2_liesOf 8 = .ok (.iload_n 1, 1) := dk_27 (dk_at dksX2_liesOf_0 8 rfl rfl)
theorem dX2_liesOf_9 : decode cX2_liesOf 9 = .ok (.iconst 0, 1) := dk_3 (dk_at dksX2_liesOf_0 9 rfl rfl)
theorem dX2_liesOf_10 : decode cX2_liesOf 10 = .ok (.invokevirtual 238, 3) := dk_182 0 238 (dk_at dksX2_liesOf_0 10 rfl rfl)
theorem dX2_liesOf_13 : decode cX2_liesOf 13 = .ok (.if_icmp .ge 49, 3) := dk_162 0 49 (dk_at dksX2_liesOf_0 13 rfl rfl)
theorem dX2_liesOf_16 : decode cX2_liesOf 16 = .ok (.iload_n 3, 1) := dk_29 (dk_at dksX2_liesOf_0 16 rfl rfl)
theorem dX2_liesOf_17 : decode cX2_liesOf 17 = .ok (.aload_n 0, 1) := dk_42 (dk_at dksX2_liesOf_0 17 rfl rfl)
theorem dX2_liesOf_18 : decode cX2_liesOf 18 = .ok (.iload_n 1, 1) := dk_27 (dk_at dksX2_liesOf_0 18 rfl rfl)
theorem dX2_liesOf_19 : decode cX2_liesOf 19 = .ok (.iload 4, 2) := dk_21 4 (dk_at dksX2_liesOf_0 19 rfl rfl)
theorem dX2_liesOf_21 : decode cX2_liesOf 21 = .ok (.invokevirtual 347, 3) := dk_182 1 91 (dk_at dksX2_liesOf_0 21 rfl rfl)
theorem dX2_liesOf_24 : decode cX2_liesOf 24 = .ok (.iconst (-1), 1) := dk_2 (dk_at dksX2_liesOf_1 0 rfl rfl)
theorem dX2_liesOf_25 : decode cX2_liesOf 25 = .ok (.if_icmp .eq 25, 3) := dk_159 0 25 (dk_at dksX2_liesOf_1 1 rfl rfl)
theorem dX2_liesOf_28 : decode cX2_liesOf 28 = .ok (.aload_n 0, 1) := dk_42 (dk_at dksX2_liesOf_1 4 rfl rfl)
theorem dX2_liesOf_29 : decode cX2_liesOf 29 = .ok (.iload_n 1, 1) := dk_27 (dk_at dksX2_liesOf_1 5 rfl rfl)
theorem dX2_liesOf_30 : decode cX2_liesOf 30 = .ok (.iload_n 2, 1) := dk_28 (dk_at dksX2_liesOf_1 6 rfl rfl)
theorem dX2_liesOf_31 : decode cX2_liesOf 31 = .ok (.iload 4, 2) := dk_21 4 (dk_at dksX2_liesOf_1 7 rfl rfl)
theorem dX2_liesOf_33 : decode cX2_liesOf 33 = .ok (.invokevirtual 257, 3) := dk_182 1 1 (dk_at dksX2_liesOf_1 9 rfl rfl)
theorem dX2_liesOf_36 : decode cX2_liesOf 36 = .ok (.aload_n 0, 1) := dk_42 (dk_at dksX2_liesOf_1 12 rfl rfl)
theorem dX2_liesOf_37 : decode cX2_liesOf 37 = .ok (.iload_n 1, 1) := dk_27 (dk_at dksX2_liesOf_1 13 rfl rfl)
theorem dX2_liesOf_38 : decode cX2_liesOf 38 = .ok (.iload 4, 2) := dk_21 4 (dk_at dksX2_liesOf_1 14 rfl rfl)
theorem dX2_liesOf_40 : decode cX2_liesOf 40 = .ok (.invokevirtual 347, 3) := dk_182 1 91 (dk_at dksX2_liesOf_1 16 rfl rfl)
theorem dX2_liesOf_43 : decode cX2_liesOf 43 = .ok (.if_icmp .eq 7, 3) := dk_159 0 7 (dk_at dksX2_liesOf_1 19 rfl rfl)
theorem dX2_liesOf_46 : decode cX2_liesOf 46 = .ok (.iconst 1, 1) := dk_4 (dk_at dksX2_liesOf_1 22 rfl rfl)
theorem dX2_liesOf_47 : decode cX2_liesOf 47 = .ok (.goto 4, 3) := dk_167 0 4 (dk_at dksX2_liesOf_2 0 rfl rfl)
theorem dX2_liesOf_50 : decode cX2_liesOf 50 = .ok (.iconst 0, 1) := dk_3 (dk_at dksX2_liesOf_2 3 rfl rfl)
theorem dX2_liesOf_51 : decode cX2_liesOf 51 = .ok (.invokestatic 260, 3) := dk_184 1 4 (dk_at dksX2_liesOf_2 4 rfl rfl)
theorem dX2_liesOf_54 : decode cX2_liesOf 54 = .ok (.iadd, 1) := dk_96 (dk_at dksX2_liesOf_2 7 rfl rfl)
theorem dX2_liesOf_55 : decode cX2_liesOf 55 = .ok (.istore_n 3, 1) := dk_62 (dk_at dksX2_liesOf_2 8 rfl rfl)
theorem dX2_liesOf_56 : decode cX2_liesOf 56 = .ok (.iinc 4 1, 3) := dk_132 4 1 (dk_at dksX2_liesOf_2 9 rfl rfl)
theorem dX2_liesOf_59 : decode cX2_liesOf 59 = .ok (.goto (-54), 3) := dk_167 255 202 (dk_at dksX2_liesOf_2 12 rfl rfl)
theorem dX2_liesOf_62 : decode cX2_liesOf 62 = .ok (.iload_n 3, 1) := dk_29 (dk_at dksX2_liesOf_2 15 rfl rfl)
theorem dX2_liesOf_63 : decode cX2_liesOf 63 = .ok (.ireturn, 1) := dk_172 (dk_at dksX2_liesOf_2 16 rfl rfl)
abbrev cX2_firstWrong : ByteArray := prog_12_method_103_code
def yX2_firstWrong : MethodName := ⟨RX2, "firstWrong", "(I)I"⟩
def dkwX2_firstWrong_1 : List UInt8 := [28, 182, 1, 91, 42, 27, 28, 182, 1, 67, 159, 0, 5, 28, 172, 132, 2, 1, 167, 255, 226, 2, 172]
abbrev dktX2_firstWrong_1 : List UInt8 := dkwX2_firstWrong_1 ++ []
def dkwX2_firstWrong_0 : List UInt8 := [42, 27, 182, 1, 94, 154, 0, 5, 3, 172, 3, 61, 28, 42, 27, 3, 182, 0, 238, 162, 0, 26, 42, 27]
abbrev dktX2_firstWrong_0 : List UInt8 := dkwX2_firstWrong_0 ++ dktX2_firstWrong_1
theorem dksX2_firstWrong_0 : cX2_firstWrong.data.toList.drop 0 = dktX2_firstWrong_0 := by decide +kernel
theorem dksX2_firstWrong_1 : cX2_firstWrong.data.toList.drop 24 = dktX2_firstWrong_1 := dk_seg dksX2_firstWrong_0 24 rfl rfl
theorem dX2_firstWrong_0 : decode cX2_firstWrong 0 = .ok (.aload_n 0, 1) := dk_42 (dk_at dksX2_firstWrong_0 0 rfl rfl)
theorem dX2_firstWrong_1 : decode cX2_firstWrong 1 = .ok (.iload_n 1, 1) := dk_27 (dk_at dksX2_firstWrong_0 1 rfl rfl)
theorem dX2_firstWrong_2 : decode cX2_firstWrong 2 = .ok (.invokevirtual 350, 3) := dk_182 1 94 (dk_at dksX2_firstWrong_0 2 rfl rfl)
theorem dX2_firstWrong_5 : decode cX2_firstWrong 5 = .ok (.ifCond .ne 5, 3) := dk_154 0 5 (dk_at dksX2_firstWrong_0 5 rfl rfl)
theorem dX2_firstWrong_8 : decode cX2_firstWrong 8 = .ok (.iconst 0, 1) := dk_3 (dk_at dksX2_firstWrong_0 8 rfl rfl)
theorem dX2_firstWrong_9 : decode cX2_firstWrong 9 = .ok (.ireturn, 1) := dk_172 (dk_at dksX2_firstWrong_0 9 rfl rfl)
theorem dX2_firstWrong_10 : decode cX2_firstWrong 10 = .ok (.iconst 0, 1) := dk_3 (dk_at dksX2_firstWrong_0 10 rfl rfl)
theorem dX2_firstWrong_11 : decode cX2_firstWrong 11 = .ok (.istore_n 2, 1) := dk_61 (dk_at dksX2_firstWrong_0 11 rfl rfl)
theorem dX2_firstWrong_12 : decode cX2_firstWrong 12 = .ok (.iload_n 2, 1) := dk_28 (dk_at dksX2_firstWrong_0 12 rfl rfl)
theorem dX2_firstWrong_13 : decode cX2_firstWrong 13 = .ok (.aload_n 0, 1) := dk_42 (dk_at dksX2_firstWrong_0 13 rfl rfl)
theorem dX2_firstWrong_14 : decode cX2_firstWrong 14 = .ok (.iload_n 1, 1) := dk_27 (dk_at dksX2_firstWrong_0 14 rfl rfl)
theorem dX2_firstWrong_15 : decode cX2_firstWrong 15 = .ok (.iconst 0, 1) := dk_3 (dk_at dksX2_firstWrong_0 15 rfl rfl)
theorem dX2_firstWrong_16 : decode cX2_firstWrong 16 = .ok (.invokevirtual 238, 3) := dk_182 0 238 (dk_at dksX2_firstWrong_0 16 rfl rfl)
theorem dX2_firstWrong_19 : decode cX2_firstWrong 19 = .ok (.if_icmp .ge 26, 3) := dk_162 0 26 (dk_at dksX2_firstWrong_0 19 rfl rfl)
theorem dX2_firstWrong_22 : decode cX2_firstWrong 22 = .ok (.aload_n 0, 1) := dk_42 (dk_at dksX2_firstWrong_0 22 rfl rfl)
theorem dX2_firstWrong_23 : decode cX2_firstWrong 23 = .ok (.iload_n 1, 1) := dk_27 (dk_at dksX2_firstWrong_0 23 rfl rfl)
theorem dX2_firstWrong_24 : decode cX2_firstWrong 24 = .ok (.iload_n 2, 1) := dk_28 (dk_at dksX2_firstWrong_1 0 rfl rfl)
theorem dX2_firstWrong_25 : decode cX2_firstWrong 25 = .ok (.invokevirtual 347, 3) := dk_182 1 91 (dk_at dksX2_firstWrong_1 1 rfl rfl)
theorem dX2_firstWrong_28 : decode cX2_firstWrong 28 = .ok (.aload_n 0, 1) := dk_42 (dk_at dksX2_firstWrong_1 4 rfl rfl)
theorem dX2_firstWrong_29 : decode cX2_firstWrong 29 = .ok (.iload_n 1, 1) := dk_27 (dk_at dksX2_firstWrong_1 5 rfl rfl)
theorem dX2_firstWrong_30 : decode cX2_firstWrong 30 = .ok (.iload_n 2, 1) := dk_28 (dk_at dksX2_firstWrong_1 6 rfl rfl)
theorem dX2_firstWrong_31 : decode cX2_firstWrong 31 = .ok (.invokevirtual 323, 3) := dk_182 1 67 (dk_at dksX2_firstWrong_1 7 rfl rfl)
theorem dX2_firstWrong_34 : decode cX2_firstWrong 34 = .ok (.if_icmp .eq 5, 3) := dk_159 0 5 (dk_at dksX2_firstWrong_1 10 rfl rfl)
theorem dX2_firstWrong_37 : decode cX2_firstWrong 37 = .ok (.iload_n 2, 1) := dk_28 (dk_at dksX2_firstWrong_1 13 rfl rfl)
theorem dX2_firstWrong_38 : decode cX2_firstWrong 38 = .ok (.ireturn, 1) := dk_172 (dk_at dksX2_firstWrong_1 14 rfl rfl)
theorem dX2_firstWrong_39 : decode cX2_firstWrong 39 = .ok (.iinc 2 1, 3) := dk_132 2 1 (dk_at dksX2_firstWrong_1 15 rfl rfl)
theorem dX2_firstWrong_42 : decode cX2_firstWrong 42 = .ok (.goto (-30), 3) := dk_167 255 226 (dk_at dksX2_firstWrong_1 18 rfl rfl)
theorem dX2_firstWrong_45 : decode cX2_firstWrong 45 = .ok (.iconst (-1), 1) := dk_2 (dk_at dksX2_firstWrong_1 21 rfl rfl)
theorem dX2_firstWrong_46 : decode cX2_firstWrong 46 = .ok (.ireturn, 1) := dk_172 (dk_at dksX2_firstWrong_1 22 rfl rfl)
abbrev cX2_doubtful : ByteArray := prog_12_method_105_code
def yX2_doubtful : MethodName := ⟨RX2, "doubtful", "(I)I"⟩
def dkwX2_doubtful_1 : List UInt8 := [28, 42, 27, 29, 182, 1, 103, 184, 1, 4, 96, 61, 132, 3, 1, 167, 255, 231, 28, 172]
abbrev dktX2_doubtful_1 : List UInt8 := dkwX2_doubtful_1 ++ []
def dkwX2_doubtful_0 : List UInt8 := [42, 27, 182, 1, 94, 154, 0, 5, 3, 172, 3, 61, 3, 62, 29, 42, 27, 3, 182, 0, 238, 162, 0, 21]
abbrev dktX2_doubtful_0 : List UInt8 := dkwX2_doubtful_0 ++ dktX2_doubtful_1
theorem dksX2_doubtful_0 : cX2_doubtful.data.toList.drop 0 = dktX2_doubtful_0 := by decide +kernel
theorem dksX2_doubtful_1 : cX2_doubtful.data.toList.drop 24 = dktX2_doubtful_1 := dk_seg dksX2_doubtful_0 24 rfl rfl
theorem dX2_doubtful_0 : decode cX2_doubtful 0 = .ok (.aload_n 0, 1) := dk_42 (dk_at dksX2_doubtful_0 0 rfl rfl)
theorem dX2_doubtful_1 : decode cX2_doubtful 1 = .ok (.iload_n 1, 1) := dk_27 (dk_at dksX2_doubtful_0 1 rfl rfl)
theorem dX2_doubtful_2 : decode cX2_doubtful 2 = .ok (.invokevirtual 350, 3) := dk_182 1 94 (dk_at dksX2_doubtful_0 2 rfl rfl)
theorem dX2_doubtful_5 : decode cX2_doubtful 5 = .ok (.ifCond .ne 5, 3) := dk_154 0 5 (dk_at dksX2_doubtful_0 5 rfl rfl)
theorem dX2_doubtful_8 : decode cX2_doubtful 8 = .ok (.iconst 0, 1) := dk_3 (dk_at dksX2_doubtful_0 8 rfl rfl)
theorem dX2_doubtful_9 : decode cX2_doubtful 9 = .ok (.ireturn, 1) := dk_172 (dk_at dksX2_doubtful_0 9 rfl rfl)
theorem dX2_doubtful_10 : decode cX2_doubtful 10 = .ok (.iconst 0, 1) := dk_3 (dk_at dksX2_doubtful_0 10 rfl rfl)
theorem dX2_doubtful_11 : decode cX2_doubtful 11 = .ok (.istore_n 2, 1) := dk_61 (dk_at dksX2_doubtful_0 11 rfl rfl)
theorem dX2_doubtful_12 : decode cX2_doubtful 12 = .ok (.iconst 0, 1) := dk_3 (dk_at dksX2_doubtful_0 12 rfl rfl)
theorem dX2_doubtful_13 : decode cX2_doubtful 13 = .ok (.istore_n 3, 1) := dk_62 (dk_at dksX2_doubtful_0 13 rfl rfl)
theorem dX2_doubtful_14 : decode cX2_doubtful 14 = .ok (.iload_n 3, 1) := dk_29 (dk_at dksX2_doubtful_0 14 rfl rfl)
theorem dX2_doubtful_15 : decode cX2_doubtful 15 = .ok (.aload_n 0, 1) := dk_42 (dk_at dksX2_doubtful_0 15 rfl rfl)
theorem dX2_doubtful_16 : decode cX2_doubtful 16 = .ok (.iload_n 1, 1) := dk_27 (dk_at dksX2_doubtful_0 16 rfl rfl)
theorem dX2_doubtful_17 : decode cX2_doubtful 17 = .ok (.iconst 0, 1) := dk_3 (dk_at dksX2_doubtful_0 17 rfl rfl)
theorem dX2_doubtful_18 : decode cX2_doubtful 18 = .ok (.invokevirtual 238, 3) := dk_182 0 238 (dk_at dksX2_doubtful_0 18 rfl rfl)
theorem dX2_doubtful_21 : decode cX2_doubtful 21 = .ok (.if_icmp .ge 21, 3) := dk_162 0 21 (dk_at dksX2_doubtful_0 21 rfl rfl)
theorem dX2_doubtful_24 : decode cX2_doubtful 24 = .ok (.iload_n 2, 1) := dk_28 (dk_at dksX2_doubtful_1 0 rfl rfl)
theorem dX2_doubtful_25 : decode cX2_doubtful 25 = .ok (.aload_n 0, 1) := dk_42 (dk_at dksX2_doubtful_1 1 rfl rfl)
theorem dX2_doubtful_26 : decode cX2_doubtful 26 = .ok (.iload_n 1, 1) := dk_27 (dk_at dksX2_doubtful_1 2 rfl rfl)
theorem dX2_doubtful_27 : decode cX2_doubtful 27 = .ok (.iload_n 3, 1) := dk_29 (dk_at dksX2_doubtful_1 3 rfl rfl)
theorem dX2_doubtful_28 : decode cX2_doubtful 28 = .ok (.invokevirtual 359, 3) := dk_182 1 103 (dk_at dksX2_doubtful_1 4 rfl rfl)
theorem dX2_doubtful_31 : decode cX2_doubtful 31 = .ok (.invokestatic 260, 3) := dk_184 1 4 (dk_at dksX2_doubtful_1 7 rfl rfl)
theorem dX2_doubtful_34 : decode cX2_doubtful 34 = .ok (.iadd, 1) := dk_96 (dk_at dksX2_doubtful_1 10 rfl rfl)
theorem dX2_doubtful_35 : decode cX2_doubtful 35 = .ok (.istore_n 2, 1) := dk_61 (dk_at dksX2_doubtful_1 11 rfl rfl)
theorem dX2_doubtful_36 : decode cX2_doubtful 36 = .ok (.iinc 3 1, 3) := dk_132 3 1 (dk_at dksX2_doubtful_1 12 rfl rfl)
theorem dX2_doubtful_39 : decode cX2_doubtful 39 = .ok (.goto (-25), 3) := dk_167 255 231 (dk_at dksX2_doubtful_1 15 rfl rfl)
theorem dX2_doubtful_42 : decode cX2_doubtful 42 = .ok (.iload_n 2, 1) := dk_28 (dk_at dksX2_doubtful_1 18 rfl rfl)
theorem dX2_doubtful_43 : decode cX2_doubtful 43 = .ok (.ireturn, 1) := dk_172 (dk_at dksX2_doubtful_1 19 rfl rfl)
abbrev cX2_isDoubtful : ByteArray := prog_12_method_104_code
def yX2_isDoubtful : MethodName := ⟨RX2, "isDoubtful", "(II)Z"⟩
def dkwX2_isDoubtful_1 : List UInt8 := [29, 42, 27, 5, 28, 182, 1, 1, 159, 0, 7, 4, 167, 0, 4, 3, 172]
abbrev dktX2_isDoubtful_1 : List UInt8 := dkwX2_isDoubtful_1 ++ []
def dkwX2_isDoubtful_0 : List UInt8 := [42, 27, 3, 28, 182, 1, 1, 62, 29, 2, 159, 0, 25, 29, 42, 27, 4, 28, 182, 1, 1, 160, 0, 14]
abbrev dktX2_isDoubtful_0 : List UInt8 := dkwX2_isDoubtful_0 ++ dktX2_isDoubtful_1
theorem dksX2_isDoubtful_0 : cX2_isDoubtful.data.toList.drop 0 = dktX2_isDoubtful_0 := by decide +kernel
theorem dksX2_isDoubtful_1 : cX2_isDoubtful.data.toList.drop 24 = dktX2_isDoubtful_1 := dk_seg dksX2_isDoubtful_0 24 rfl rfl
theorem dX2_isDoubtful_0 : decode cX2_isDoubtful 0 = .ok (.aload_n 0, 1) := dk_42 (dk_at dksX2_isDoubtful_0 0 rfl rfl)
theorem dX2_isDoubtful_1 : decode cX2_isDoubtful 1 = .ok (.iload_n 1, 1) := dk_27 (dk_at dksX2_isDoubtful_0 1 rfl rfl)
theorem dX2_isDoubtful_2 : decode cX2_isDoubtful 2 = .ok (.iconst 0, 1) := dk_3 (dk_at dksX2_isDoubtful_0 2 rfl rfl)
theorem dX2_isDoubtful_3 : decode cX2_isDoubtful 3 = .ok (.iload_n 2, 1) := dk_28 (dk_at dksX2_isDoubtful_0 3 rfl rfl)
theorem dX2_isDoubtful_4 : decode cX2_isDoubtful 4 = .ok (.invokevirtual 257, 3) := dk_182 1 1 (dk_at dksX2_isDoubtful_0 4 rfl rfl)
theorem dX2_isDoubtful_7 : decode cX2_isDoubtful 7 = .ok (.istore_n 3, 1) := dk_62 (dk_at dksX2_isDoubtful_0 7 rfl rfl)
theorem dX2_isDoubtful_8 : decode cX2_isDoubtful 8 = .ok (.iload_n 3, 1) := dk_29 (dk_at dksX2_isDoubtful_0 8 rfl rfl)
theorem dX2_isDoubtful_9 : decode cX2_isDoubtful 9 = .ok (.iconst (-1), 1) := dk_2 (dk_at dksX2_isDoubtful_0 9 rfl rfl)
theorem dX2_isDoubtful_10 : decode cX2_isDoubtful 10 = .ok (.if_icmp .eq 25, 3) := dk_159 0 25 (dk_at dksX2_isDoubtful_0 10 rfl rfl)
theorem dX2_isDoubtful_13 : decode cX2_isDoubtful 13 = .ok (.iload_n 3, 1) := dk_29 (dk_at dksX2_isDoubtful_0 13 rfl rfl)
theorem dX2_isDoubtful_14 : decode cX2_isDoubtful 14 = .ok (.aload_n 0, 1) := dk_42 (dk_at dksX2_isDoubtful_0 14 rfl rfl)
theorem dX2_isDoubtful_15 : decode cX2_isDoubtful 15 = .ok (.iload_n 1, 1) := dk_27 (dk_at dksX2_isDoubtful_0 15 rfl rfl)
theorem dX2_isDoubtful_16 : decode cX2_isDoubtful 16 = .ok (.iconst 1, 1) := dk_4 (dk_at dksX2_isDoubtful_0 16 rfl rfl)
theorem dX2_isDoubtful_17 : decode cX2_isDoubtful 17 = .ok (.iload_n 2, 1) := dk_28 (dk_at dksX2_isDoubtful_0 17 rfl rfl)
theorem dX2_isDoubtful_18 : decode cX2_isDoubtful 18 = .ok (.invokevirtual 257, 3) := dk_182 1 1 (dk_at dksX2_isDoubtful_0 18 rfl rfl)
theorem dX2_isDoubtful_21 : decode cX2_isDoubtful 21 = .ok (.if_icmp .ne 14, 3) := dk_160 0 14 (dk_at dksX2_isDoubtful_0 21 rfl rfl)
theorem dX2_isDoubtful_24 : decode cX2_isDoubtful 24 = .ok (.iload_n 3, 1) := dk_29 (dk_at dksX2_isDoubtful_1 0 rfl rfl)
theorem dX2_isDoubtful_25 : decode cX2_isDoubtful 25 = .ok (.aload_n 0, 1) := dk_42 (dk_at dksX2_isDoubtful_1 1 rfl rfl)
theorem dX2_isDoubtful_26 : decode cX2_isDoubtful 26 = .ok (.iload_n 1, 1) := dk_27 (dk_at dksX2_isDoubtful_1 2 rfl rfl)
theorem dX2_isDoubtful_27 : decode cX2_isDoubtful 27 = .ok (.iconst 2, 1) := dk_5 (dk_at dksX2_isDoubtful_1 3 rfl rfl)
theorem dX2_isDoubtful_28 : decode cX2_isDoubtful 28 = .ok (.iload_n 2, 1) := dk_28 (dk_at dksX2_isDoubtful_1 4 rfl rfl)
theorem dX2_isDoubtful_29 : decode cX2_isDoubtful 29 = .ok (.invokevirtual 257, 3) := dk_182 1 1 (dk_at dksX2_isDoubtful_1 5 rfl rfl)
theorem dX2_isDoubtful_32 : decode cX2_isDoubtful 32 = .ok (.if_icmp .eq 7, 3) := dk_159 0 7 (dk_at dksX2_isDoubtful_1 8 rfl rfl)
theorem dX2_isDoubtful_35 : decode cX2_isDoubtful 35 = .ok (.iconst 1, 1) := dk_4 (dk_at dksX2_isDoubtful_1 11 rfl rfl)
theorem dX2_isDoubtful_36 : decode cX2_isDoubtful 36 = .ok (.goto 4, 3) := dk_167 0 4 (dk_at dksX2_isDoubtful_1 12 rfl rfl)
theorem dX2_isDoubtful_39 : decode cX2_isDoubtful 39 = .ok (.iconst 0, 1) := dk_3 (dk_at dksX2_isDoubtful_1 15 rfl rfl)
theorem dX2_isDoubtful_40 : decode cX2_isDoubtful 40 = .ok (.ireturn, 1) := dk_172 (dk_at dksX2_isDoubtful_1 16 rfl rfl)
abbrev cX2_agreeing : ByteArray := prog_12_method_107_code
def yX2_agreeing : MethodName := ⟨RX2, "agreeing", "(I)I"⟩
def dkwX2_agreeing_2 : List UInt8 := [3, 172, 29, 21, 4, 161, 0, 7, 4, 167, 0, 4, 5, 172]
abbrev dktX2_agreeing_2 : List UInt8 := dkwX2_agreeing_2 ++ []
def dkwX2_agreeing_1 : List UInt8 := [182, 1, 106, 62, 42, 27, 4, 5, 182, 1, 106, 54, 4, 28, 29, 161, 0, 11, 28, 21, 4, 161, 0, 5]
abbrev dktX2_agreeing_1 : List UInt8 := dkwX2_agreeing_1 ++ dktX2_agreeing_2
def dkwX2_agreeing_0 : List UInt8 := [42, 27, 182, 1, 94, 154, 0, 5, 3, 172, 42, 27, 3, 4, 182, 1, 106, 61, 42, 27, 3, 5]
abbrev dktX2_agreeing_0 : List UInt8 := dkwX2_agreeing_0 ++ dktX2_agreeing_1
theorem dksX2_agreeing_0 : cX2_agreeing.data.toList.drop 0 = dktX2_agreeing_0 := by decide +kernel
theorem dksX2_agreeing_1 : cX2_agreeing.data.toList.drop 22 = dktX2_agreeing_1 := dk_seg dksX2_agreeing_0 22 rfl rfl
theorem dksX2_agreeing_2 : cX2_agreeing.data.toList.drop 46 = dktX2_agreeing_2 := dk_seg dksX2_agreeing_1 24 rfl rfl
theorem dX2_agreeing_0 : decode cX2_agreeing 0 = .ok (.aload_n 0, 1) := dk_42 (dk_at dksX2_agreeing_0 0 rfl rfl)
theorem dX2_agreeing_1 : decode cX2_agreeing 1 = .ok (.iload_n 1, 1) := dk_27 (dk_at dksX2_agreeing_0 1 rfl rfl)
theorem dX2_agreeing_2 : decode cX2_agreeing 2 = .ok (.invokevirtual 350, 3) := dk_182 1 94 (dk_at dksX2_agreeing_0 2 rfl rfl)
theorem dX2_agreeing_5 : decode cX2_agreeing 5 = .ok (.ifCond .ne 5, 3) := dk_154 0 5 (dk_at dksX2_agreeing_0 5 rfl rfl)
theorem dX2_agreeing_8 : decode cX2_agreeing 8 = .ok (.iconst 0, 1) := dk_3 (dk_at dksX2_agreeing_0 8 rfl rfl)
theorem dX2_agreeing_9 : decode cX2_agreeing 9 = .ok (.ireturn, 1) := dk_172 (dk_at dksX2_agreeing_0 9 rfl rfl)
theorem dX2_agreeing_10 : decode cX2_agreeing 10 = .ok (.aload_n 0, 1) := dk_42 (dk_at dksX2_agreeing_0 10 rfl rfl)
theorem dX2_agreeing_11 : decode cX2_agreeing 11 = .ok (.iload_n 1, 1) := dk_27 (dk_at dksX2_agreeing_0 11 rfl rfl)
theorem dX2_agreeing_12 : decode cX2_agreeing 12 = .ok (.iconst 0, 1) := dk_3 (dk_at dksX2_agreeing_0 12 rfl rfl)
theorem dX2_agreeing_13 : decode cX2_agreeing 13 = .ok (.iconst 1, 1) := dk_4 (dk_at dksX2_agreeing_0 13 rfl rfl)
theorem dX2_agreeing_14 : decode cX2_agreeing 14 = .ok (.invokevirtual 362, 3) := dk_182 1 106 (dk_at dksX2_agreeing_0 14 rfl rfl)
theorem dX2_agreeing_17 : decode cX2_agreeing 17 = .ok (.istore_n 2, 1) := dk_61 (dk_at dksX2_agreeing_0 17 rfl rfl)
theorem dX2_agreeing_18 : decode cX2_agreeing 18 = .ok (.aload_n 0, 1) := dk_42 (dk_at dksX2_agreeing_0 18 rfl rfl)
theorem dX2_agreeing_19 : decode cX2_agreeing 19 = .ok (.iload_n 1, 1) := dk_27 (dk_at dksX2_agreeing_0 19 rfl rfl)
theorem dX2_agreeing_20 : decode cX2_agreeing 20 = .ok (.iconst 0, 1) := dk_3 (dk_at dksX2_agreeing_0 20 rfl rfl)
theorem dX2_agreeing_21 : decode cX2_agreeing 21 = .ok (.iconst 2, 1) := dk_5 (dk_at dksX2_agreeing_0 21 rfl rfl)
theorem dX2_agreeing_22 : decode cX2_agreeing 22 = .ok (.invokevirtual 362, 3) := dk_182 1 106 (dk_at dksX2_agreeing_1 0 rfl rfl)
theorem dX2_agreeing_25 : decode cX2_agreeing 25 = .ok (.istore_n 3, 1) := dk_62 (dk_at dksX2_agreeing_1 3 rfl rfl)
theorem dX2_agreeing_26 : decode cX2_agreeing 26 = .ok (.aload_n 0, 1) := dk_42 (dk_at dksX2_agreeing_1 4 rfl rfl)
theorem dX2_agreeing_27 : decode cX2_agreeing 27 = .ok (.iload_n 1, 1) := dk_27 (dk_at dksX2_agreeing_1 5 rfl rfl)
theorem dX2_agreeing_28 : decode cX2_agreeing 28 = .ok (.iconst 1, 1) := dk_4 (dk_at dksX2_agreeing_1 6 rfl rfl)
theorem dX2_agreeing_29 : decode cX2_agreeing 29 = .ok (.iconst 2, 1) := dk_5 (dk_at dksX2_agreeing_1 7 rfl rfl)
theorem dX2_agreeing_30 : decode cX2_agreeing 30 = .ok (.invokevirtual 362, 3) := dk_182 1 106 (dk_at dksX2_agreeing_1 8 rfl rfl)
theorem dX2_agreeing_33 : decode cX2_agreeing 33 = .ok (.istore 4, 2) := dk_54 4 (dk_at dksX2_agreeing_1 11 rfl rfl)
theorem dX2_agreeing_35 : decode cX2_agreeing 35 = .ok (.iload_n 2, 1) := dk_28 (dk_at dksX2_agreeing_1 13 rfl rfl)
theorem dX2_agreeing_36 : decode cX2_agreeing 36 = .ok (.iload_n 3, 1) := dk_29 (dk_at dksX2_agreeing_1 14 rfl rfl)
theorem dX2_agreeing_37 : decode cX2_agreeing 37 = .ok (.if_icmp .lt 11, 3) := dk_161 0 11 (dk_at dksX2_agreeing_1 15 rfl rfl)
theorem dX2_agreeing_40 : decode cX2_agreeing 40 = .ok (.iload_n 2, 1) := dk_28 (dk_at dksX2_agreeing_1 18 rfl rfl)
theorem dX2_agreeing_41 : decode cX2_agreeing 41 = .ok (.iload 4, 2) := dk_21 4 (dk_at dksX2_agreeing_1 19 rfl rfl)
theorem dX2_agreeing_43 : decode cX2_agreeing 43 = .ok (.if_icmp .lt 5, 3) := dk_161 0 5 (dk_at dksX2_agreeing_1 21 rfl rfl)
theorem dX2_agreeing_46 : decode cX2_agreeing 46 = .ok (.iconst 0, 1) := dk_3 (dk_at dksX2_agreeing_2 0 rfl rfl)
theorem dX2_agreeing_47 : decode cX2_agreeing 47 = .ok (.ireturn, 1) := dk_172 (dk_at dksX2_agreeing_2 1 rfl rfl)
theorem dX2_agreeing_48 : decode cX2_agreeing 48 = .ok (.iload_n 3, 1) := dk_29 (dk_at dksX2_agreeing_2 2 rfl rfl)
theorem dX2_agreeing_49 : decode cX2_agreeing 49 = .ok (.iload 4, 2) := dk_21 4 (dk_at dksX2_agreeing_2 3 rfl rfl)
theorem dX2_agreeing_51 : decode cX2_agreeing 51 = .ok (.if_icmp .lt 7, 3) := dk_161 0 7 (dk_at dksX2_agreeing_2 5 rfl rfl)
theorem dX2_agreeing_54 : decode cX2_agreeing 54 = .ok (.iconst 1, 1) := dk_4 (dk_at dksX2_agreeing_2 8 rfl rfl)
theorem dX2_agreeing_55 : decode cX2_agreeing 55 = .ok (.goto 4, 3) := dk_167 0 4 (dk_at dksX2_agreeing_2 9 rfl rfl)
theorem dX2_agreeing_58 : decode cX2_agreeing 58 = .ok (.iconst 2, 1) := dk_5 (dk_at dksX2_agreeing_2 12 rfl rfl)
theorem dX2_agreeing_59 : decode cX2_agreeing 59 = .ok (.ireturn, 1) := dk_172 (dk_at dksX2_agreeing_2 13 rfl rfl)
abbrev cX2_sameMany : ByteArray := prog_12_method_106_code
def yX2_sameMany : MethodName := ⟨RX2, "sameMany", "(III)I"⟩
def dkwX2_sameMany_2 : List UInt8 := [160, 0, 7, 4, 167, 0, 4, 3, 184, 1, 4, 96, 54, 4, 132, 5, 1, 167, 255, 198, 21, 4, 172]
abbrev dktX2_sameMany_2 : List UInt8 := dkwX2_sameMany_2 ++ []
def dkwX2_sameMany_1 : List UInt8 := [182, 1, 1, 2, 159, 0, 26, 42, 27, 28, 21, 5, 182, 1, 1, 42, 27, 29, 21, 5, 182, 1, 1]
abbrev dktX2_sameMany_1 : List UInt8 := dkwX2_sameMany_1 ++ dktX2_sameMany_2
def dkwX2_sameMany_0 : List UInt8 := [3, 54, 4, 3, 54, 5, 21, 5, 42, 27, 3, 182, 0, 238, 162, 0, 53, 21, 4, 42, 27, 28, 21, 5]
abbrev dktX2_sameMany_0 : List UInt8 := dkwX2_sameMany_0 ++ dktX2_sameMany_1
theorem dksX2_sameMany_0 : cX2_sameMany.data.toList.drop 0 = dktX2_sameMany_0 := by decide +kernel
theorem dksX2_sameMany_1 : cX2_sameMany.data.toList.drop 24 = dktX2_sameMany_1 := dk_seg dksX2_sameMany_0 24 rfl rfl
theorem dksX2_sameMany_2 : cX2_sameMany.data.toList.drop 47 = dktX2_sameMany_2 := dk_seg dksX2_sameMany_1 23 rfl rfl
theorem dX2_sameMany_0 : decode cX2_sameMany 0 = .ok (.iconst 0, 1) := dk_3 (dk_at dksX2_sameMany_0 0 rfl rfl)
theorem dX2_sameMany_1 : decode cX2_sameMany 1 = .ok (.istore 4, 2) := dk_54 4 (dk_at dksX2_sameMany_0 1 rfl rfl)
theorem dX2_sameMany_3 : decode cX2_sameMany 3 = .ok (.iconst 0, 1) := dk_3 (dk_at dksX2_sameMany_0 3 rfl rfl)
theorem dX2_sameMany_4 : decode cX2_sameMany 4 = .ok (.istore 5, 2) := dk_54 5 (dk_at dksX2_sameMany_0 4 rfl rfl)
theorem dX2_sameMany_6 : decode cX2_sameMany 6 = .ok (.iload 5, 2) := dk_21 5 (dk_at dksX2_sameMany_0 6 rfl rfl)
theorem dX2_sameMany_8 : decode cX2_sameMany 8 = .ok (.aload_n 0, 1) := dk_42 (dk_at dksX2_sameMany_0 8 rfl rfl)
theorem dX2_sameMany_9 : decode cX2_sameMany 9 = .ok (.iload_n 1, 1) := dk_27 (dk_at dksX2_sameMany_0 9 rfl rfl)
theorem dX2_sameMany_10 : decode cX2_sameMany 10 = .ok (.iconst 0, 1) := dk_3 (dk_at dksX2_sameMany_0 10 rfl rfl)
theorem dX2_sameMany_11 : decode cX2_sameMany 11 = .ok (.invokevirtual 238, 3) := dk_182 0 238 (dk_at dksX2_sameMany_0 11 rfl rfl)
theorem dX2_sameMany_14 : decode cX2_sameMany 14 = .ok (.if_icmp .ge 53, 3) := dk_162 0 53 (dk_at dksX2_sameMany_0 14 rfl rfl)
theorem dX2_sameMany_17 : decode cX2_sameMany 17 = .ok (.iload 4, 2) := dk_21 4 (dk_at dksX2_sameMany_0 17 rfl rfl)
theorem dX2_sameMany_19 : decode cX2_sameMany 19 = .ok (.aload_n 0, 1) := dk_42 (dk_at dksX2_sameMany_0 19 rfl rfl)
theorem dX2_sameMany_20 : decode cX2_sameMany 20 = .ok (.iload_n 1, 1) := dk_27 (dk_at dksX2_sameMany_0 20 rfl rfl)
theorem dX2_sameMany_21 : decode cX2_sameMany 21 = .ok (.iload_n 2, 1) := dk_28 (dk_at dksX2_sameMany_0 21 rfl rfl)
theorem dX2_sameMany_22 : decode cX2_sameMany 22 = .ok (.iload 5, 2) := dk_21 5 (dk_at dksX2_sameMany_0 22 rfl rfl)
theorem dX2_sameMany_24 : decode cX2_sameMany 24 = .ok (.invokevirtual 257, 3) := dk_182 1 1 (dk_at dksX2_sameMany_1 0 rfl rfl)
theorem dX2_sameMany_27 : decode cX2_sameMany 27 = .ok (.iconst (-1), 1) := dk_2 (dk_at dksX2_sameMany_1 3 rfl rfl)
theorem dX2_sameMany_28 : decode cX2_sameMany 28 = .ok (.if_icmp .eq 26, 3) := dk_159 0 26 (dk_at dksX2_sameMany_1 4 rfl rfl)
theorem dX2_sameMany_31 : decode cX2_sameMany 31 = .ok (.aload_n 0, 1) := dk_42 (dk_at dksX2_sameMany_1 7 rfl rfl)
theorem dX2_sameMany_32 : decode cX2_sameMany 32 = .ok (.iload_n 1, 1) := dk_27 (dk_at dksX2_sameMany_1 8 rfl rfl)
theorem dX2_sameMany_33 : decode cX2_sameMany 33 = .ok (.iload_n 2, 1) := dk_28 (dk_at dksX2_sameMany_1 9 rfl rfl)
theorem dX2_sameMany_34 : decode cX2_sameMany 34 = .ok (.iload 5, 2) := dk_21 5 (dk_at dksX2_sameMany_1 10 rfl rfl)
theorem dX2_sameMany_36 : decode cX2_sameMany 36 = .ok (.invokevirtual 257, 3) := dk_182 1 1 (dk_at dksX2_sameMany_1 12 rfl rfl)
theorem dX2_sameMany_39 : decode cX2_sameMany 39 = .ok (.aload_n 0, 1) := dk_42 (dk_at dksX2_sameMany_1 15 rfl rfl)
theorem dX2_sameMany_40 : decode cX2_sameMany 40 = .ok (.iload_n 1, 1) := dk_27 (dk_at dksX2_sameMany_1 16 rfl rfl)
theorem dX2_sameMany_41 : decode cX2_sameMany 41 = .ok (.iload_n 3, 1) := dk_29 (dk_at dksX2_sameMany_1 17 rfl rfl)
theorem dX2_sameMany_42 : decode cX2_sameMany 42 = .ok (.iload 5, 2) := dk_21 5 (dk_at dksX2_sameMany_1 18 rfl rfl)
theorem dX2_sameMany_44 : decode cX2_sameMany 44 = .ok (.invokevirtual 257, 3) := dk_182 1 1 (dk_at dksX2_sameMany_1 20 rfl rfl)
theorem dX2_sameMany_47 : decode cX2_sameMany 47 = .ok (.if_icmp .ne 7, 3) := dk_160 0 7 (dk_at dksX2_sameMany_2 0 rfl rfl)
theorem dX2_sameMany_50 : decode cX2_sameMany 50 = .ok (.iconst 1, 1) := dk_4 (dk_at dksX2_sameMany_2 3 rfl rfl)
theorem dX2_sameMany_51 : decode cX2_sameMany 51 = .ok (.goto 4, 3) := dk_167 0 4 (dk_at dksX2_sameMany_2 4 rfl rfl)
theorem dX2_sameMany_54 : decode cX2_sameMany 54 = .ok (.iconst 0, 1) := dk_3 (dk_at dksX2_sameMany_2 7 rfl rfl)
theorem dX2_sameMany_55 : decode cX2_sameMany 55 = .ok (.invokestatic 260, 3) := dk_184 1 4 (dk_at dksX2_sameMany_2 8 rfl rfl)
theorem dX2_sameMany_58 : decode cX2_sameMany 58 = .ok (.iadd, 1) := dk_96 (dk_at dksX2_sameMany_2 11 rfl rfl)
theorem dX2_sameMany_59 : decode cX2_sameMany 59 = .ok (.istore 4, 2) := dk_54 4 (dk_at dksX2_sameMany_2 12 rfl rfl)
theorem dX2_sameMany_61 : decode cX2_sameMany 61 = .ok (.iinc 5 1, 3) := dk_132 5 1 (dk_at dksX2_sameMany_2 14 rfl rfl)
theorem dX2_sameMany_64 : decode cX2_sameMany 64 = .ok (.goto (-58), 3) := dk_167 255 198 (dk_at dksX2_sameMany_2 17 rfl rfl)
theorem dX2_sameMany_67 : decode cX2_sameMany 67 = .ok (.iload 4, 2) := dk_21 4 (dk_at dksX2_sameMany_2 20 rfl rfl)
theorem dX2_sameMany_69 : decode cX2_sameMany 69 = .ok (.ireturn, 1) := dk_172 (dk_at dksX2_sameMany_2 22 rfl rfl)
abbrev cX2_oldest : ByteArray := prog_12_method_108_code
def yX2_oldest : MethodName := ⟨RX2, "oldest", "()I"⟩
def dkwX2_oldest_2 : List UInt8 := [162, 0, 5, 28, 60, 132, 2, 1, 167, 255, 213, 27, 172]
abbrev dktX2_oldest_2 : List UInt8 := dkwX2_oldest_2 ++ []
def dkwX2_oldest_1 : List UInt8 := [28, 182, 0, 146, 153, 0, 25, 27, 2, 159, 0, 18, 42, 28, 6, 182, 0, 238, 42, 27, 6, 182, 0, 238]
abbrev dktX2_oldest_1 : List UInt8 := dkwX2_oldest_1 ++ dktX2_oldest_2
def dkwX2_oldest_0 : List UInt8 := [42, 182, 1, 56, 154, 0, 5, 3, 172, 2, 60, 3, 61, 28, 42, 180, 0, 9, 6, 46, 162, 0, 39, 42]
abbrev dktX2_oldest_0 : List UInt8 := dkwX2_oldest_0 ++ dktX2_oldest_1
theorem dksX2_oldest_0 : cX2_oldest.data.toList.drop 0 = dktX2_oldest_0 := by decide +kernel
theorem dksX2_oldest_1 : cX2_oldest.data.toList.drop 24 = dktX2_oldest_1 := dk_seg dksX2_oldest_0 24 rfl rfl
theorem dksX2_oldest_2 : cX2_oldest.data.toList.drop 48 = dktX2_oldest_2 := dk_seg dksX2_oldest_1 24 rfl rfl
theorem dX2_oldest_0 : decode cX2_oldest 0 = .ok (.aload_n 0, 1) := dk_42 (dk_at dksX2_oldest_0 0 rfl rfl)
theorem dX2_oldest_1 : decode cX2_oldest 1 = .ok (.invokevirtual 312, 3) := dk_182 1 56 (dk_at dksX2_oldest_0 1 rfl rfl)
theorem dX2_oldest_4 : decode cX2_oldest 4 = .ok (.ifCond .ne 5, 3) := dk_154 0 5 (dk_at dksX2_oldest_0 4 rfl rfl)
theorem dX2_oldest_7 : decode cX2_oldest 7 = .ok (.iconst 0, 1) := dk_3 (dk_at dksX2_oldest_0 7 rfl rfl)
theorem dX2_oldest_8 : decode cX2_oldest 8 = .ok (.ireturn, 1) := dk_172 (dk_at dksX2_oldest_0 8 rfl rfl)
theorem dX2_oldest_9 : decode cX2_oldest 9 = .ok (.iconst (-1), 1) := dk_2 (dk_at dksX2_oldest_0 9 rfl rfl)
theorem dX2_oldest_10 : decode cX2_oldest 10 = .ok (.istore_n 1, 1) := dk_60 (dk_at dksX2_oldest_0 10 rfl rfl)
theorem dX2_oldest_11 : decode cX2_oldest 11 = .ok (.iconst 0, 1) := dk_3 (dk_at dksX2_oldest_0 11 rfl rfl)
theorem dX2_oldest_12 : decode cX2_oldest 12 = .ok (.istore_n 2, 1) := dk_61 (dk_at dksX2_oldest_0 12 rfl rfl)
theorem dX2_oldest_13 : decode cX2_oldest 13 = .ok (.iload_n 2, 1) := dk_28 (dk_at dksX2_oldest_0 13 rfl rfl)
theorem dX2_oldest_14 : decode cX2_oldest 14 = .ok (.aload_n 0, 1) := dk_42 (dk_at dksX2_oldest_0 14 rfl rfl)
theorem dX2_oldest_15 : decode cX2_oldest 15 = .ok (.getfield 9, 3) := dk_180 0 9 (dk_at dksX2_oldest_0 15 rfl rfl)
theorem dX2_oldest_18 : decode cX2_oldest 18 = .ok (.iconst 3, 1) := dk_6 (dk_at dksX2_oldest_0 18 rfl rfl)
theorem dX2_oldest_19 : decode cX2_oldest 19 = .ok (.iaload, 1) := dk_46 (dk_at dksX2_oldest_0 19 rfl rfl)
theorem dX2_oldest_20 : decode cX2_oldest 20 = .ok (.if_icmp .ge 39, 3) := dk_162 0 39 (dk_at dksX2_oldest_0 20 rfl rfl)
theorem dX2_oldest_23 : decode cX2_oldest 23 = .ok (.aload_n 0, 1) := dk_42 (dk_at dksX2_oldest_0 23 rfl rfl)
theorem dX2_oldest_24 : decode cX2_oldest 24 = .ok (.iload_n 2, 1) := dk_28 (dk_at dksX2_oldest_1 0 rfl rfl)
theorem dX2_oldest_25 : decode cX2_oldest 25 = .ok (.invokevirtual 146, 3) := dk_182 0 146 (dk_at dksX2_oldest_1 1 rfl rfl)
theorem dX2_oldest_28 : decode cX2_oldest 28 = .ok (.ifCond .eq 25, 3) := dk_153 0 25 (dk_at dksX2_oldest_1 4 rfl rfl)
theorem dX2_oldest_31 : decode cX2_oldest 31 = .ok (.iload_n 1, 1) := dk_27 (dk_at dksX2_oldest_1 7 rfl rfl)
theorem dX2_oldest_32 : decode cX2_oldest 32 = .ok (.iconst (-1), 1) := dk_2 (dk_at dksX2_oldest_1 8 rfl rfl)
theorem dX2_oldest_33 : decode cX2_oldest 33 = .ok (.if_icmp .eq 18, 3) := dk_159 0 18 (dk_at dksX2_oldest_1 9 rfl rfl)
theorem dX2_oldest_36 : decode cX2_oldest 36 = .ok (.aload_n 0, 1) := dk_42 (dk_at dksX2_oldest_1 12 rfl rfl)
theorem dX2_oldest_37 : decode cX2_oldest 37 = .ok (.iload_n 2, 1) := dk_28 (dk_at dksX2_oldest_1 13 rfl rfl)
theorem dX2_oldest_38 : decode cX2_oldest 38 = .ok (.iconst 3, 1) := dk_6 (dk_at dksX2_oldest_1 14 rfl rfl)
theorem dX2_oldest_39 : decode cX2_oldest 39 = .ok (.invokevirtual 238, 3) := dk_182 0 238 (dk_at dksX2_oldest_1 15 rfl rfl)
theorem dX2_oldest_42 : decode cX2_oldest 42 = .ok (.aload_n 0, 1) := dk_42 (dk_at dksX2_oldest_1 18 rfl rfl)
theorem dX2_oldest_43 : decode cX2_oldest 43 = .ok (.iload_n 1, 1) := dk_27 (dk_at dksX2_oldest_1 19 rfl rfl)
theorem dX2_oldest_44 : decode cX2_oldest 44 = .ok (.iconst 3, 1) := dk_6 (dk_at dksX2_oldest_1 20 rfl rfl)
theorem dX2_oldest_45 : decode cX2_oldest 45 = .ok (.invokevirtual 238, 3) := dk_182 0 238 (dk_at dksX2_oldest_1 21 rfl rfl)
theorem dX2_oldest_48 : decode cX2_oldest 48 = .ok (.if_icmp .ge 5, 3) := dk_162 0 5 (dk_at dksX2_oldest_2 0 rfl rfl)
theorem dX2_oldest_51 : decode cX2_oldest 51 = .ok (.iload_n 2, 1) := dk_28 (dk_at dksX2_oldest_2 3 rfl rfl)
theorem dX2_oldest_52 : decode cX2_oldest 52 = .ok (.istore_n 1, 1) := dk_60 (dk_at dksX2_oldest_2 4 rfl rfl)
theorem dX2_oldest_53 : decode cX2_oldest 53 = .ok (.iinc 2 1, 3) := dk_132 2 1 (dk_at dksX2_oldest_2 5 rfl rfl)
theorem dX2_oldest_56 : decode cX2_oldest 56 = .ok (.goto (-43), 3) := dk_167 255 213 (dk_at dksX2_oldest_2 8 rfl rfl)
theorem dX2_oldest_59 : decode cX2_oldest 59 = .ok (.iload_n 1, 1) := dk_27 (dk_at dksX2_oldest_2 11 rfl rfl)
theorem dX2_oldest_60 : decode cX2_oldest 60 = .ok (.ireturn, 1) := dk_172 (dk_at dksX2_oldest_2 12 rfl rfl)
abbrev cX2_next : ByteArray := prog_12_method_110_code
def yX2_next : MethodName := ⟨RX2, "next", "(I)I"⟩
def dkwX2_next_0 : List UInt8 := [42, 27, 182, 1, 94, 153, 0, 11, 42, 27, 182, 1, 109, 167, 0, 4, 3, 172]
abbrev dktX2_next_0 : List UInt8 := dkwX2_next_0 ++ []
theorem dksX2_next_0 : cX2_next.data.toList.drop 0 = dktX2_next_0 := by decide +kernel
theorem dX2_next_0 : decode cX2_next 0 = .ok (.aload_n 0, 1) := dk_42 (dk_at dksX2_next_0 0 rfl rfl)
theorem dX2_next_1 : decode cX2_next 1 = .ok (.iload_n 1, 1) := dk_27 (dk_at dksX2_next_0 1 rfl rfl)
theorem dX2_next_2 : decode cX2_next 2 = .ok (.invokevirtual 350, 3) := dk_182 1 94 (dk_at dksX2_next_0 2 rfl rfl)
theorem dX2_next_5 : decode cX2_next 5 = .ok (.ifCond .eq 11, 3) := dk_153 0 11 (dk_at dksX2_next_0 5 rfl rfl)
theorem dX2_next_8 : decode cX2_next 8 = .ok (.aload_n 0, 1) := dk_42 (dk_at dksX2_next_0 8 rfl rfl)
theorem dX2_next_9 : decode cX2_next 9 = .ok (.iload_n 1, 1) := dk_27 (dk_at dksX2_next_0 9 rfl rfl)
theorem dX2_next_10 : decode cX2_next 10 = .ok (.invokevirtual 365, 3) := dk_182 1 109 (dk_at dksX2_next_0 10 rfl rfl)
theorem dX2_next_13 : decode cX2_next 13 = .ok (.goto 4, 3) := dk_167 0 4 (dk_at dksX2_next_0 13 rfl rfl)
theorem dX2_next_16 : decode cX2_next 16 = .ok (.iconst 0, 1) := dk_3 (dk_at dksX2_next_0 16 rfl rfl)
theorem dX2_next_17 : decode cX2_next 17 = .ok (.ireturn, 1) := dk_172 (dk_at dksX2_next_0 17 rfl rfl)
abbrev cX2_nextOf : ByteArray := prog_12_method_109_code
def yX2_nextOf : MethodName := ⟨RX2, "nextOf", "(I)I"⟩
def dkwX2_nextOf_1 : List UInt8 := [182, 0, 238, 42, 182, 1, 17, 162, 0, 7, 5, 167, 0, 4, 6, 172]
abbrev dktX2_nextOf_1 : List UInt8 := dkwX2_nextOf_1 ++ []
def dkwX2_nextOf_0 : List UInt8 := [42, 27, 182, 0, 146, 154, 0, 5, 3, 172, 42, 27, 182, 1, 20, 153, 0, 5, 4, 172, 42, 27, 4]
abbrev dktX2_nextOf_0 : List UInt8 := dkwX2_nextOf_0 ++ dktX2_nextOf_1
theorem dksX2_nextOf_0 : cX2_nextOf.data.toList.drop 0 = dktX2_nextOf_0 := by decide +kernel
theorem dksX2_nextOf_1 : cX2_nextOf.data.toList.drop 23 = dktX2_nextOf_1 := dk_seg dksX2_nextOf_0 23 rfl rfl
theorem dX2_nextOf_0 : decode cX2_nextOf 0 = .ok (.aload_n 0, 1) := dk_42 (dk_at dksX2_nextOf_0 0 rfl rfl)
theorem dX2_nextOf_1 : decode cX2_nextOf 1 = .ok (.iload_n 1, 1) := dk_27 (dk_at dksX2_nextOf_0 1 rfl rfl)
theorem dX2_nextOf_2 : decode cX2_nextOf 2 = .ok (.invokevirtual 146, 3) := dk_182 0 146 (dk_at dksX2_nextOf_0 2 rfl rfl)
theorem dX2_nextOf_5 : decode cX2_nextOf 5 = .ok (.ifCond .ne 5, 3) := dk_154 0 5 (dk_at dksX2_nextOf_0 5 rfl rfl)
theorem dX2_nextOf_8 : decode cX2_nextOf 8 = .ok (.iconst 0, 1) := dk_3 (dk_at dksX2_nextOf_0 8 rfl rfl)
theorem dX2_nextOf_9 : decode cX2_nextOf 9 = .ok (.ireturn, 1) := dk_172 (dk_at dksX2_nextOf_0 9 rfl rfl)
theorem dX2_nextOf_10 : decode cX2_nextOf 10 = .ok (.aload_n 0, 1) := dk_42 (dk_at dksX2_nextOf_0 10 rfl rfl)
theorem dX2_nextOf_11 : decode cX2_nextOf 11 = .ok (.iload_n 1, 1) := dk_27 (dk_at dksX2_nextOf_0 11 rfl rfl)
theorem dX2_nextOf_12 : decode cX2_nextOf 12 = .ok (.invokevirtual 276, 3) := dk_182 1 20 (dk_at dksX2_nextOf_0 12 rfl rfl)
theorem dX2_nextOf_15 : decode cX2_nextOf 15 = .ok (.ifCond .eq 5, 3) := dk_153 0 5 (dk_at dksX2_nextOf_0 15 rfl rfl)
theorem dX2_nextOf_18 : decode cX2_nextOf 18 = .ok (.iconst 1, 1) := dk_4 (dk_at dksX2_nextOf_0 18 rfl rfl)
theorem dX2_nextOf_19 : decode cX2_nextOf 19 = .ok (.ireturn, 1) := dk_172 (dk_at dksX2_nextOf_0 19 rfl rfl)
theorem dX2_nextOf_20 : decode cX2_nextOf 20 = .ok (.aload_n 0, 1) := dk_42 (dk_at dksX2_nextOf_0 20 rfl rfl)
theorem dX2_nextOf_21 : decode cX2_nextOf 21 = .ok (.iload_n 1, 1) := dk_27 (dk_at dksX2_nextOf_0 21 rfl rfl)
theorem dX2_nextOf_22 : decode cX2_nextOf 22 = .ok (.iconst 1, 1) := dk_4 (dk_at dksX2_nextOf_0 22 rfl rfl)
theorem dX2_nextOf_23 : decode cX2_nextOf 23 = .ok (.invokevirtual 238, 3) := dk_182 0 238 (dk_at dksX2_nextOf_1 0 rfl rfl)
theorem dX2_nextOf_26 : decode cX2_nextOf 26 = .ok (.aload_n 0, 1) := dk_42 (dk_at dksX2_nextOf_1 3 rfl rfl)
theorem dX2_nextOf_27 : decode cX2_nextOf 27 = .ok (.invokevirtual 273, 3) := dk_182 1 17 (dk_at dksX2_nextOf_1 4 rfl rfl)
theorem dX2_nextOf_30 : decode cX2_nextOf 30 = .ok (.if_icmp .ge 7, 3) := dk_162 0 7 (dk_at dksX2_nextOf_1 7 rfl rfl)
theorem dX2_nextOf_33 : decode cX2_nextOf 33 = .ok (.iconst 2, 1) := dk_5 (dk_at dksX2_nextOf_1 10 rfl rfl)
theorem dX2_nextOf_34 : decode cX2_nextOf 34 = .ok (.goto 4, 3) := dk_167 0 4 (dk_at dksX2_nextOf_1 11 rfl rfl)
theorem dX2_nextOf_37 : decode cX2_nextOf 37 = .ok (.iconst 3, 1) := dk_6 (dk_at dksX2_nextOf_1 14 rfl rfl)
theorem dX2_nextOf_38 : decode cX2_nextOf 38 = .ok (.ireturn, 1) := dk_172 (dk_at dksX2_nextOf_1 15 rfl rfl)
abbrev cX2_gap : ByteArray := prog_12_method_113_code
def yX2_gap : MethodName := ⟨RX2, "gap", "()I"⟩
def dkwX2_gap_2 : List UInt8 := [180, 0, 9, 6, 46, 162, 0, 17, 27, 42, 28, 182, 1, 120, 96, 60, 132, 2, 1, 167, 255, 235, 27, 172]
abbrev dktX2_gap_2 : List UInt8 := dkwX2_gap_2 ++ []
def dkwX2_gap_1 : List UInt8 := [42, 180, 0, 9, 16, 6, 46, 42, 7, 182, 1, 112, 100, 184, 1, 115, 96, 60, 3, 61, 28, 42]
abbrev dktX2_gap_1 : List UInt8 := dkwX2_gap_1 ++ dktX2_gap_2
def dkwX2_gap_0 : List UInt8 := [42, 182, 1, 56, 154, 0, 5, 3, 172, 42, 180, 0, 9, 8, 46, 42, 6, 182, 1, 112, 100, 184, 1, 115]
abbrev dktX2_gap_0 : List UInt8 := dkwX2_gap_0 ++ dktX2_gap_1
theorem dksX2_gap_0 : cX2_gap.data.toList.drop 0 = dktX2_gap_0 := by decide +kernel
theorem dksX2_gap_1 : cX2_gap.data.toList.drop 24 = dktX2_gap_1 := dk_seg dksX2_gap_0 24 rfl rfl
theorem dksX2_gap_2 : cX2_gap.data.toList.drop 46 = dktX2_gap_2 := dk_seg dksX2_gap_1 22 rfl rfl
theorem dX2_gap_0 : decode cX2_gap 0 = .ok (.aload_n 0, 1) := dk_42 (dk_at dksX2_gap_0 0 rfl rfl)
theorem dX2_gap_1 : decode cX2_gap 1 = .ok (.invokevirtual 312, 3) := dk_182 1 56 (dk_at dksX2_gap_0 1 rfl rfl)
theorem dX2_gap_4 : decode cX2_gap 4 = .ok (.ifCond .ne 5, 3) := dk_154 0 5 (dk_at dksX2_gap_0 4 rfl rfl)
theorem dX2_gap_7 : decode cX2_gap 7 = .ok (.iconst 0, 1) := dk_3 (dk_at dksX2_gap_0 7 rfl rfl)
theorem dX2_gap_8 : decode cX2_gap 8 = .ok (.ireturn, 1) := dk_172 (dk_at dksX2_gap_0 8 rfl rfl)
theorem dX2_gap_9 : decode cX2_gap 9 = .ok (.aload_n 0, 1) := dk_42 (dk_at dksX2_gap_0 9 rfl rfl)
theorem dX2_gap_10 : decode cX2_gap 10 = .ok (.getfield 9, 3) := dk_180 0 9 (dk_at dksX2_gap_0 10 rfl rfl)
theorem dX2_gap_13 : decode cX2_gap 13 = .ok (.iconst 5, 1) := dk_8 (dk_at dksX2_gap_0 13 rfl rfl)
theorem dX2_gap_14 : decode cX2_gap 14 = .ok (.iaload, 1) := dk_46 (dk_at dksX2_gap_0 14 rfl rfl)
theorem dX2_gap_15 : decode cX2_gap 15 = .ok (.aload_n 0, 1) := dk_42 (dk_at dksX2_gap_0 15 rfl rfl)
theorem dX2_gap_16 : decode cX2_gap 16 = .ok (.iconst 3, 1) := dk_6 (dk_at dksX2_gap_0 16 rfl rfl)
theorem dX2_gap_17 : decode cX2_gap 17 = .ok (.invokevirtual 368, 3) := dk_182 1 112 (dk_at dksX2_gap_0 17 rfl rfl)
theorem dX2_gap_20 : decode cX2_gap 20 = .ok (.isub, 1) := dk_100 (dk_at dksX2_gap_0 20 rfl rfl)
theorem dX2_gap_21 : decode cX2_gap 21 = .ok (.invokestatic 371, 3) := dk_184 1 115 (dk_at dksX2_gap_0 21 rfl rfl)
theorem dX2_gap_24 : decode cX2_gap 24 = .ok (.aload_n 0, 1) := dk_42 (dk_at dksX2_gap_1 0 rfl rfl)
theorem dX2_gap_25 : decode cX2_gap 25 = .ok (.getfield 9, 3) := dk_180 0 9 (dk_at dksX2_gap_1 1 rfl rfl)
theorem dX2_gap_28 : decode cX2_gap 28 = .ok (.bipush 6, 2) := dk_16 6 (dk_at dksX2_gap_1 4 rfl rfl)
theorem dX2_gap_30 : decode cX2_gap 30 = .ok (.iaload, 1) := dk_46 (dk_at dksX2_gap_1 6 rfl rfl)
theorem dX2_gap_31 : decode cX2_gap 31 = .ok (.aload_n 0, 1) := dk_42 (dk_at dksX2_gap_1 7 rfl rfl)
theorem dX2_gap_32 : decode cX2_gap 32 = .ok (.iconst 4, 1) := dk_7 (dk_at dksX2_gap_1 8 rfl rfl)
theorem dX2_gap_33 : decode cX2_gap 33 = .ok (.invokevirtual 368, 3) := dk_182 1 112 (dk_at dksX2_gap_1 9 rfl rfl)
theorem dX2_gap_36 : decode cX2_gap 36 = .ok (.isub, 1) := dk_100 (dk_at dksX2_gap_1 12 rfl rfl)
theorem dX2_gap_37 : decode cX2_gap 37 = .ok (.invokestatic 371, 3) := dk_184 1 115 (dk_at dksX2_gap_1 13 rfl rfl)
theorem dX2_gap_40 : decode cX2_gap 40 = .ok (.iadd, 1) := dk_96 (dk_at dksX2_gap_1 16 rfl rfl)
theorem dX2_gap_41 : decode cX2_gap 41 = .ok (.istore_n 1, 1) := dk_60 (dk_at dksX2_gap_1 17 rfl rfl)
theorem dX2_gap_42 : decode cX2_gap 42 = .ok (.iconst 0, 1) := dk_3 (dk_at dksX2_gap_1 18 rfl rfl)
theorem dX2_gap_43 : decode cX2_gap 43 = .ok (.istore_n 2, 1) := dk_61 (dk_at dksX2_gap_1 19 rfl rfl)
theorem dX2_gap_44 : decode cX2_gap 44 = .ok (.iload_n 2, 1) := dk_28 (dk_at dksX2_gap_1 20 rfl rfl)
theorem dX2_gap_45 : decode cX2_gap 45 = .ok (.aload_n 0, 1) := dk_42 (dk_at dksX2_gap_1 21 rfl rfl)
theorem dX2_gap_46 : decode cX2_gap 46 = .ok (.getfield 9, 3) := dk_180 0 9 (dk_at dksX2_gap_2 0 rfl rfl)
theorem dX2_gap_49 : decode cX2_gap 49 = .ok (.iconst 3, 1) := dk_6 (dk_at dksX2_gap_2 3 rfl rfl)
theorem dX2_gap_50 : decode cX2_gap 50 = .ok (.iaload, 1) := dk_46 (dk_at dksX2_gap_2 4 rfl rfl)
theorem dX2_gap_51 : decode cX2_gap 51 = .ok (.if_icmp .ge 17, 3) := dk_162 0 17 (dk_at dksX2_gap_2 5 rfl rfl)
theorem dX2_gap_54 : decode cX2_gap 54 = .ok (.iload_n 1, 1) := dk_27 (dk_at dksX2_gap_2 8 rfl rfl)
theorem dX2_gap_55 : decode cX2_gap 55 = .ok (.aload_n 0, 1) := dk_42 (dk_at dksX2_gap_2 9 rfl rfl)
theorem dX2_gap_56 : decode cX2_gap 56 = .ok (.iload_n 2, 1) := dk_28 (dk_at dksX2_gap_2 10 rfl rfl)
theorem dX2_gap_57 : decode cX2_gap 57 = .ok (.invokevirtual 376, 3) := dk_182 1 120 (dk_at dksX2_gap_2 11 rfl rfl)
theorem dX2_gap_60 : decode cX2_gap 60 = .ok (.iadd, 1) := dk_96 (dk_at dksX2_gap_2 14 rfl rfl)
theorem dX2_gap_61 : decode cX2_gap 61 = .ok (.istore_n 1, 1) := dk_60 (dk_at dksX2_gap_2 15 rfl rfl)
theorem dX2_gap_62 : decode cX2_gap 62 = .ok (.iinc 2 1, 3) := dk_132 2 1 (dk_at dksX2_gap_2 16 rfl rfl)
theorem dX2_gap_65 : decode cX2_gap 65 = .ok (.goto (-21), 3) := dk_167 255 235 (dk_at dksX2_gap_2 19 rfl rfl)
theorem dX2_gap_68 : decode cX2_gap 68 = .ok (.iload_n 1, 1) := dk_27 (dk_at dksX2_gap_2 22 rfl rfl)
theorem dX2_gap_69 : decode cX2_gap 69 = .ok (.ireturn, 1) := dk_172 (dk_at dksX2_gap_2 23 rfl rfl)
abbrev cX2_ofAllWires : ByteArray := prog_12_method_112_code
def yX2_ofAllWires : MethodName := ⟨RX2, "ofAllWires", "(I)I"⟩
def dkwX2_ofAllWires_1 : List UInt8 := [132, 3, 1, 167, 255, 233, 28, 172]
abbrev dktX2_ofAllWires_1 : List UInt8 := dkwX2_ofAllWires_1 ++ []
def dkwX2_ofAllWires_0 : List UInt8 := [3, 61, 3, 62, 29, 16, 9, 42, 182, 1, 17, 104, 162, 0, 18, 28, 42, 29, 27, 182, 0, 134, 96, 61]
abbrev dktX2_ofAllWires_0 : List UInt8 := dkwX2_ofAllWires_0 ++ dktX2_ofAllWires_1
theorem dksX2_ofAllWires_0 : cX2_ofAllWires.data.toList.drop 0 = dktX2_ofAllWires_0 := by decide +kernel
theorem dksX2_ofAllWires_1 : cX2_ofAllWires.data.toList.drop 24 = dktX2_ofAllWires_1 := dk_seg dksX2_ofAllWires_0 24 rfl rfl
theorem dX2_ofAllWires_0 : decode cX2_ofAllWires 0 = .ok (.iconst 0, 1) := dk_3 (dk_at dksX2_ofAllWires_0 0 rfl rfl)
theorem dX2_ofAllWires_1 : decode cX2_ofAllWires 1 = .ok (.istore_n 2, 1) := dk_61 (dk_at dksX2_ofAllWires_0 1 rfl rfl)
theorem dX2_ofAllWires_2 : decode cX2_ofAllWires 2 = .ok (.iconst 0, 1) := dk_3 (dk_at dksX2_ofAllWires_0 2 rfl rfl)
theorem dX2_ofAllWires_3 : decode cX2_ofAllWires 3 = .ok (.istore_n 3, 1) := dk_62 (dk_at dksX2_ofAllWires_0 3 rfl rfl)
theorem dX2_ofAllWires_4 : decode cX2_ofAllWires 4 = .ok (.iload_n 3, 1) := dk_29 (dk_at dksX2_ofAllWires_0 4 rfl rfl)
theorem dX2_ofAllWires_5 : decode cX2_ofAllWires 5 = .ok (.bipush 9, 2) := dk_16 9 (dk_at dksX2_ofAllWires_0 5 rfl rfl)
theorem dX2_ofAllWires_7 : decode cX2_ofAllWires 7 = .ok (.aload_n 0, 1) := dk_42 (dk_at dksX2_ofAllWires_0 7 rfl rfl)
theorem dX2_ofAllWires_8 : decode cX2_ofAllWires 8 = .ok (.invokevirtual 273, 3) := dk_182 1 17 (dk_at dksX2_ofAllWires_0 8 rfl rfl)
theorem dX2_ofAllWires_11 : decode cX2_ofAllWires 11 = .ok (.imul, 1) := dk_104 (dk_at dksX2_ofAllWires_0 11 rfl rfl)
theorem dX2_ofAllWires_12 : decode cX2_ofAllWires 12 = .ok (.if_icmp .ge 18, 3) := dk_162 0 18 (dk_at dksX2_ofAllWires_0 12 rfl rfl)
theorem dX2_ofAllWires_15 : decode cX2_ofAllWires 15 = .ok (.iload_n 2, 1) := dk_28 (dk_at dksX2_ofAllWires_0 15 rfl rfl)
theorem dX2_ofAllWires_16 : decode cX2_ofAllWires 16 = .ok (.aload_n 0, 1) := dk_42 (dk_at dksX2_ofAllWires_0 16 rfl rfl)
theorem dX2_ofAllWires_17 : decode cX2_ofAllWires 17 = .ok (.iload_n 3, 1) := dk_29 (dk_at dksX2_ofAllWires_0 17 rfl rfl)
theorem dX2_ofAllWires_18 : decode cX2_ofAllWires 18 = .ok (.iload_n 1, 1) := dk_27 (dk_at dksX2_ofAllWires_0 18 rfl rfl)
theorem dX2_ofAllWires_19 : decode cX2_ofAllWires 19 = .ok (.invokevirtual 134, 3) := dk_182 0 134 (dk_at dksX2_ofAllWires_0 19 rfl rfl)
theorem dX2_ofAllWires_22 : decode cX2_ofAllWires 22 = .ok (.iadd, 1) := dk_96 (dk_at dksX2_ofAllWires_0 22 rfl rfl)
theorem dX2_ofAllWires_23 : decode cX2_ofAllWires 23 = .ok (.istore_n 2, 1) := dk_61 (dk_at dksX2_ofAllWires_0 23 rfl rfl)
theorem dX2_ofAllWires_24 : decode cX2_ofAllWires 24 = .ok (.iinc 3 1, 3) := dk_132 3 1 (dk_at dksX2_ofAllWires_1 0 rfl rfl)
theorem dX2_ofAllWires_27 : decode cX2_ofAllWires 27 = .ok (.goto (-23), 3) := dk_167 255 233 (dk_at dksX2_ofAllWires_1 3 rfl rfl)
theorem dX2_ofAllWires_30 : decode cX2_ofAllWires 30 = .ok (.iload_n 2, 1) := dk_28 (dk_at dksX2_ofAllWires_1 6 rfl rfl)
theorem dX2_ofAllWires_31 : decode cX2_ofAllWires 31 = .ok (.ireturn, 1) := dk_172 (dk_at dksX2_ofAllWires_1 7 rfl rfl)
abbrev cX2_unlikeCopies : ByteArray := prog_12_method_111_code
def yX2_unlikeCopies : MethodName := ⟨RX2, "unlikeCopies", "(I)I"⟩
def dkwX2_unlikeCopies_3 : List UInt8 := [154, 0, 7, 3, 167, 0, 4, 28, 172]
abbrev dktX2_unlikeCopies_3 : List UInt8 := dkwX2_unlikeCopies_3 ++ []
def dkwX2_unlikeCopies_2 : List UInt8 := [184, 1, 4, 96, 61, 132, 4, 1, 167, 255, 212, 132, 3, 1, 167, 255, 198, 42, 27, 4, 182, 0, 238]
abbrev dktX2_unlikeCopies_2 : List UInt8 := dkwX2_unlikeCopies_2 ++ dktX2_unlikeCopies_3
def dkwX2_unlikeCopies_1 : List UInt8 := [42, 27, 29, 21, 4, 182, 1, 1, 42, 27, 29, 21, 4, 182, 0, 254, 159, 0, 7, 4, 167, 0, 4, 3]
abbrev dktX2_unlikeCopies_1 : List UInt8 := dkwX2_unlikeCopies_1 ++ dktX2_unlikeCopies_2
def dkwX2_unlikeCopies_0 : List UInt8 := [3, 61, 3, 62, 29, 6, 162, 0, 59, 3, 54, 4, 21, 4, 42, 27, 3, 182, 0, 238, 162, 0, 39, 28]
abbrev dktX2_unlikeCopies_0 : List UInt8 := dkwX2_unlikeCopies_0 ++ dktX2_unlikeCopies_1
theorem dksX2_unlikeCopies_0 : cX2_unlikeCopies.data.toList.drop 0 = dktX2_unlikeCopies_0 := by decide +kernel
theorem dksX2_unlikeCopies_1 : cX2_unlikeCopies.data.toList.drop 24 = dktX2_unlikeCopies_1 := dk_seg dksX2_unlikeCopies_0 24 rfl rfl
theorem dksX2_unlikeCopies_2 : cX2_unlikeCopies.data.toList.drop 48 = dktX2_unlikeCopies_2 := dk_seg dksX2_unlikeCopies_1 24 rfl rfl
theorem dksX2_unlikeCopies_3 : cX2_unlikeCopies.data.toList.drop 71 = dktX2_unlikeCopies_3 := dk_seg dksX2_unlikeCopies_2 23 rfl rfl
theorem dX2_unlikeCopies_0 : decode cX2_unlikeCopies 0 = .ok (.iconst 0, 1) := dk_3 (dk_at dksX2_unlikeCopies_0 0 rfl rfl)
theorem dX2_unlikeCopies_1 : decode cX2_unlikeCopies 1 = .ok (.istore_n 2, 1) := dk_61 (dk_at dksX2_unlikeCopies_0 1 rfl rfl)
theorem dX2_unlikeCopies_2 : decode cX2_unlikeCopies 2 = .ok (.iconst 0, 1) := dk_3 (dk_at dksX2_unlikeCopies_0 2 rfl rfl)
theorem dX2_unlikeCopies_3 : decode cX2_unlikeCopies 3 = .ok (.istore_n 3, 1) := dk_62 (dk_at dksX2_unlikeCopies_0 3 rfl rfl)
theorem dX2_unlikeCopies_4 : decode cX2_unlikeCopies 4 = .ok (.iload_n 3, 1) := dk_29 (dk_at dksX2_unlikeCopies_0 4 rfl rfl)
theorem dX2_unlikeCopies_5 : decode cX2_unlikeCopies 5 = .ok (.iconst 3, 1) := dk_6 (dk_at dksX2_unlikeCopies_0 5 rfl rfl)
theorem dX2_unlikeCopies_6 : decode cX2_unlikeCopies 6 = .ok (.if_icmp .ge 59, 3) := dk_162 0 59 (dk_at dksX2_unlikeCopies_0 6 rfl rfl)
theorem dX2_unlikeCopies_9 : decode cX2_unlikeCopies 9 = .ok (.iconst 0, 1) := dk_3 (dk_at dksX2_unlikeCopies_0 9 rfl rfl)
theorem dX2_unlikeCopies_10 : decode cX2_unlikeCopies 10 = .ok (.istore 4, 2) := dk_54 4 (dk_at dksX2_unlikeCopies_0 10 rfl rfl)
theorem dX2_unlikeCopies_12 : decode cX2_unlikeCopies 12 = .ok (.iload 4, 2) := dk_21 4 (dk_at dksX2_unlikeCopies_0 12 rfl rfl)
theorem dX2_unlikeCopies_14 : decode cX2_unlikeCopies 14 = .ok (.aload_n 0, 1) := dk_42 (dk_at dksX2_unlikeCopies_0 14 rfl rfl)
theorem dX2_unlikeCopies_15 : decode cX2_unlikeCopies 15 = .ok (.iload_n 1, 1) := dk_27 (dk_at dksX2_unlikeCopies_0 15 rfl rfl)
theorem dX2_unlikeCopies_16 : decode cX2_unlikeCopies 16 = .ok (.iconst 0, 1) := dk_3 (dk_at dksX2_unlikeCopies_0 16 rfl rfl)
theorem dX2_unlikeCopies_17 : decode cX2_unlikeCopies 17 = .ok (.invokevirtual 238, 3) := dk_182 0 238 (dk_at dksX2_unlikeCopies_0 17 rfl rfl)
theorem dX2_unlikeCopies_20 : decode cX2_unlikeCopies 20 = .ok (.if_icmp .ge 39, 3) := dk_162 0 39 (dk_at dksX2_unlikeCopies_0 20 rfl rfl)
theorem dX2_unlikeCopies_23 : decode cX2_unlikeCopies 23 = .ok (.iload_n 2, 1) := dk_28 (dk_at dksX2_unlikeCopies_0 23 rfl rfl)
theorem dX2_unlikeCopies_24 : decode cX2_unlikeCopies 24 = .ok (.aload_n 0, 1) := dk_42 (dk_at dksX2_unlikeCopies_1 0 rfl rfl)
theorem dX2_unlikeCopies_25 : decode cX2_unlikeCopies 25 = .ok (.iload_n 1, 1) := dk_27 (dk_at dksX2_unlikeCopies_1 1 rfl rfl)
theorem dX2_unlikeCopies_26 : decode cX2_unlikeCopies 26 = .ok (.iload_n 3, 1) := dk_29 (dk_at dksX2_unlikeCopies_1 2 rfl rfl)
theorem dX2_unlikeCopies_27 : decode cX2_unlikeCopies 27 = .ok (.iload 4, 2) := dk_21 4 (dk_at dksX2_unlikeCopies_1 3 rfl rfl)
theorem dX2_unlikeCopies_29 : decode cX2_unlikeCopies 29 = .ok (.invokevirtual 257, 3) := dk_182 1 1 (dk_at dksX2_unlikeCopies_1 5 rfl rfl)
theorem dX2_unlikeCopies_32 : decode cX2_unlikeCopies 32 = .ok (.aload_n 0, 1) := dk_42 (dk_at dksX2_unlikeCopies_1 8 rfl rfl)
theorem dX2_unlikeCopies_33 : decode cX2_unlikeCopies 33 = .ok (.iload_n 1, 1) := dk_27 (dk_at dksX2_unlikeCopies_1 9 rfl rfl)
theorem dX2_unlikeCopies_34 : decode cX2_unlikeCopies 34 = .ok (.iload_n 3, 1) := dk_29 (dk_at dksX2_unlikeCopies_1 10 rfl rfl)
theorem dX2_unlikeCopies_35 : decode cX2_unlikeCopies 35 = .ok (.iload 4, 2) := dk_21 4 (dk_at dksX2_unlikeCopies_1 11 rfl rfl)
theorem dX2_unlikeCopies_37 : decode cX2_unlikeCopies 37 = .ok (.invokevirtual 254, 3) := dk_182 0 254 (dk_at dksX2_unlikeCopies_1 13 rfl rfl)
theorem dX2_unlikeCopies_40 : decode cX2_unlikeCopies 40 = .ok (.if_icmp .eq 7, 3) := dk_159 0 7 (dk_at dksX2_unlikeCopies_1 16 rfl rfl)
theorem dX2_unlikeCopies_43 : decode cX2_unlikeCopies 43 = .ok (.iconst 1, 1) := dk_4 (dk_at dksX2_unlikeCopies_1 19 rfl rfl)
theorem dX2_unlikeCopies_44 : decode cX2_unlikeCopies 44 = .ok (.goto 4, 3) := dk_167 0 4 (dk_at dksX2_unlikeCopies_1 20 rfl rfl)
theorem dX2_unlikeCopies_47 : decode cX2_unlikeCopies 47 = .ok (.iconst 0, 1) := dk_3 (dk_at dksX2_unlikeCopies_1 23 rfl rfl)
theorem dX2_unlikeCopies_48 : decode cX2_unlikeCopies 48 = .ok (.invokestatic 260, 3) := dk_184 1 4 (dk_at dksX2_unlikeCopies_2 0 rfl rfl)
theorem dX2_unlikeCopies_51 : decode cX2_unlikeCopies 51 = .ok (.iadd, 1) := dk_96 (dk_at dksX2_unlikeCopies_2 3 rfl rfl)
theorem dX2_unlikeCopies_52 : decode cX2_unlikeCopies 52 = .ok (.istore_n 2, 1) := dk_61 (dk_at dksX2_unlikeCopies_2 4 rfl rfl)
theorem dX2_unlikeCopies_53 : decode cX2_unlikeCopies 53 = .ok (.iinc 4 1, 3) := dk_132 4 1 (dk_at dksX2_unlikeCopies_2 5 rfl rfl)
theorem dX2_unlikeCopies_56 : decode cX2_unlikeCopies 56 = .ok (.goto (-44), 3) := dk_167 255 212 (dk_at dksX2_unlikeCopies_2 8 rfl rfl)
theorem dX2_unlikeCopies_59 : decode cX2_unlikeCopies 59 = .ok (.iinc 3 1, 3) := dk_132 3 1 (dk_at dksX2_unlikeCopies_2 11 rfl rfl)
theorem dX2_unlikeCopies_62 : decode cX2_unlikeCopies 62 = .ok (.goto (-58), 3) := dk_167 255 198 (dk_at dksX2_unlikeCopies_2 14 rfl rfl)
theorem dX2_unlikeCopies_65 : decode cX2_unlikeCopies 65 = .ok (.aload_n 0, 1) := dk_42 (dk_at dksX2_unlikeCopies_2 17 rfl rfl)
theorem dX2_unlikeCopies_66 : decode cX2_unlikeCopies 66 = .ok (.iload_n 1, 1) := dk_27 (dk_at dksX2_unlikeCopies_2 18 rfl rfl)
theorem dX2_unlikeCopies_67 : decode cX2_unlikeCopies 67 = .ok (.iconst 1, 1) := dk_4 (dk_at dksX2_unlikeCopies_2 19 rfl rfl)
theorem dX2_unlikeCopies_68 : decode cX2_unlikeCopies 68 = .ok (.invokevirtual 238, 3) := dk_182 0 238 (dk_at dksX2_unlikeCopies_2 20 rfl rfl)
theorem dX2_unlikeCopies_71 : decode cX2_unlikeCopies 71 = .ok (.ifCond .ne 7, 3) := dk_154 0 7 (dk_at dksX2_unlikeCopies_3 0 rfl rfl)
theorem dX2_unlikeCopies_74 : decode cX2_unlikeCopies 74 = .ok (.iconst 0, 1) := dk_3 (dk_at dksX2_unlikeCopies_3 3 rfl rfl)
theorem dX2_unlikeCopies_75 : decode cX2_unlikeCopies 75 = .ok (.goto 4, 3) := dk_167 0 4 (dk_at dksX2_unlikeCopies_3 4 rfl rfl)
theorem dX2_unlikeCopies_78 : decode cX2_unlikeCopies 78 = .ok (.iload_n 2, 1) := dk_28 (dk_at dksX2_unlikeCopies_3 7 rfl rfl)
theorem dX2_unlikeCopies_79 : decode cX2_unlikeCopies 79 = .ok (.ireturn, 1) := dk_172 (dk_at dksX2_unlikeCopies_3 8 rfl rfl)
abbrev cX2_logged : ByteArray := prog_12_method_114_code
def yX2_logged : MethodName := ⟨RX2, "logged", "(II)I"⟩
def dkwX2_logged_2 : List UInt8 := [28, 96, 46, 167, 0, 4, 2, 172]
abbrev dktX2_logged_2 : List UInt8 := dkwX2_logged_2 ++ []
def dkwX2_logged_1 : List UInt8 := [180, 0, 9, 7, 46, 4, 100, 184, 0, 77, 153, 0, 20, 42, 180, 0, 9, 17, 5, 136, 7, 27, 104, 96]
abbrev dktX2_logged_1 : List UInt8 := dkwX2_logged_1 ++ dktX2_logged_2
def dkwX2_logged_0 : List UInt8 := [42, 42, 180, 0, 56, 28, 3, 6, 184, 0, 77, 182, 1, 37, 154, 0, 5, 3, 172, 27, 3, 42]
abbrev dktX2_logged_0 : List UInt8 := dkwX2_logged_0 ++ dktX2_logged_1
theorem dksX2_logged_0 : cX2_logged.data.toList.drop 0 = dktX2_logged_0 := by decide +kernel
theorem dksX2_logged_1 : cX2_logged.data.toList.drop 22 = dktX2_logged_1 := dk_seg dksX2_logged_0 22 rfl rfl
theorem dksX2_logged_2 : cX2_logged.data.toList.drop 46 = dktX2_logged_2 := dk_seg dksX2_logged_1 24 rfl rfl
theorem dX2_logged_0 : decode cX2_logged 0 = .ok (.aload_n 0, 1) := dk_42 (dk_at dksX2_logged_0 0 rfl rfl)
theorem dX2_logged_1 : decode cX2_logged 1 = .ok (.aload_n 0, 1) := dk_42 (dk_at dksX2_logged_0 1 rfl rfl)
theorem dX2_logged_2 : decode cX2_logged 2 = .ok (.getfield 56, 3) := dk_180 0 56 (dk_at dksX2_logged_0 2 rfl rfl)
theorem dX2_logged_5 : decode cX2_logged 5 = .ok (.iload_n 2, 1) := dk_28 (dk_at dksX2_logged_0 5 rfl rfl)
theorem dX2_logged_6 : decode cX2_logged 6 = .ok (.iconst 0, 1) := dk_3 (dk_at dksX2_logged_0 6 rfl rfl)
theorem dX2_logged_7 : decode cX2_logged 7 = .ok (.iconst 3, 1) := dk_6 (dk_at dksX2_logged_0 7 rfl rfl)
theorem dX2_logged_8 : decode cX2_logged 8 = .ok (.invokestatic 77, 3) := dk_184 0 77 (dk_at dksX2_logged_0 8 rfl rfl)
theorem dX2_logged_11 : decode cX2_logged 11 = .ok (.invokevirtual 293, 3) := dk_182 1 37 (dk_at dksX2_logged_0 11 rfl rfl)
theorem dX2_logged_14 : decode cX2_logged 14 = .ok (.ifCond .ne 5, 3) := dk_154 0 5 (dk_at dksX2_logged_0 14 rfl rfl)
theorem dX2_logged_17 : decode cX2_logged 17 = .ok (.iconst 0, 1) := dk_3 (dk_at dksX2_logged_0 17 rfl rfl)
theorem dX2_logged_18 : decode cX2_logged 18 = .ok (.ireturn, 1) := dk_172 (dk_at dksX2_logged_0 18 rfl rfl)
theorem dX2_logged_19 : decode cX2_logged 19 = .ok (.iload_n 1, 1) := dk_27 (dk_at dksX2_logged_0 19 rfl rfl)
theorem dX2_logged_20 : decode cX2_logged 20 = .ok (.iconst 0, 1) := dk_3 (dk_at dksX2_logged_0 20 rfl rfl)
theorem dX2_logged_21 : decode cX2_logged 21 = .ok (.aload_n 0, 1) := dk_42 (dk_at dksX2_logged_0 21 rfl rfl)
theorem dX2_logged_22 : decode cX2_logged 22 = .ok (.getfield 9, 3) := dk_180 0 9 (dk_at dksX2_logged_1 0 rfl rfl)
theorem dX2_logged_25 : decode cX2_logged 25 = .ok (.iconst 4, 1) := dk_7 (dk_at dksX2_logged_1 3 rfl rfl)
theorem dX2_logged_26 : decode cX2_logged 26 = .ok (.iaload, 1) := dk_46 (dk_at dksX2_logged_1 4 rfl rfl)
theorem dX2_logged_27 : decode cX2_logged 27 = .ok (.iconst 1, 1) := dk_4 (dk_at dksX2_logged_1 5 rfl rfl)
theorem dX2_logged_28 : decode cX2_logged 28 = .ok (.isub, 1) := dk_100 (dk_at dksX2_logged_1 6 rfl rfl)
theorem dX2_logged_29 : decode cX2_logged 29 = .ok (.invokestatic 77, 3) := dk_184 0 77 (dk_at dksX2_logged_1 7 rfl rfl)
theorem dX2_logged_32 : decode cX2_logged 32 = .ok (.ifCond .eq 20, 3) := dk_153 0 20 (dk_at dksX2_logged_1 10 rfl rfl)
theorem dX2_logged_35 : decode cX2_logged 35 = .ok (.aload_n 0, 1) := dk_42 (dk_at dksX2_logged_1 13 rfl rfl)
theorem dX2_logged_36 : decode cX2_logged 36 = .ok (.getfield 9, 3) := dk_180 0 9 (dk_at dksX2_logged_1 14 rfl rfl)
theorem dX2_logged_39 : decode cX2_logged 39 = .ok (.sipush 1416, 3) := dk_17 5 136 (dk_at dksX2_logged_1 17 rfl rfl)
theorem dX2_logged_42 : decode cX2_logged 42 = .ok (.iconst 4, 1) := dk_7 (dk_at dksX2_logged_1 20 rfl rfl)
theorem dX2_logged_43 : decode cX2_logged 43 = .ok (.iload_n 1, 1) := dk_27 (dk_at dksX2_logged_1 21 rfl rfl)
theorem dX2_logged_44 : decode cX2_logged 44 = .ok (.imul, 1) := dk_104 (dk_at dksX2_logged_1 22 rfl rfl)
theorem dX2_logged_45 : decode cX2_logged 45 = .ok (.iadd, 1) := dk_96 (dk_at dksX2_logged_1 23 rfl rfl)
theorem dX2_logged_46 : decode cX2_logged 46 = .ok (.iload_n 2, 1) := dk_28 (dk_at dksX2_logged_2 0 rfl rfl)
theorem dX2_logged_47 : decode cX2_logged 47 = .ok (.iadd, 1) := dk_96 (dk_at dksX2_logged_2 1 rfl rfl)
theorem dX2_logged_48 : decode cX2_logged 48 = .ok (.iaload, 1) := dk_46 (dk_at dksX2_logged_2 2 rfl rfl)
theorem dX2_logged_49 : decode cX2_logged 49 = .ok (.goto 4, 3) := dk_167 0 4 (dk_at dksX2_logged_2 3 rfl rfl)
theorem dX2_logged_52 : decode cX2_logged 52 = .ok (.iconst (-1), 1) := dk_2 (dk_at dksX2_logged_2 6 rfl rfl)
theorem dX2_logged_53 : decode cX2_logged 53 = .ok (.ireturn, 1) := dk_172 (dk_at dksX2_logged_2 7 rfl rfl)
abbrev cX2_entries : ByteArray := prog_12_method_115_code
def yX2_entries : MethodName := ⟨RX2, "entries", "(I)I"⟩
def dkwX2_entries_2 : List UInt8 := [27, 160, 0, 7, 4, 167, 0, 4, 3, 184, 1, 4, 96, 61, 132, 3, 1, 167, 255, 214, 28, 172]
abbrev dktX2_entries_2 : List UInt8 := dkwX2_entries_2 ++ []
def dkwX2_entries_1 : List UInt8 := [42, 180, 0, 9, 7, 46, 162, 0, 38, 28, 42, 180, 0, 9, 17, 5, 136, 7, 29, 104, 96, 4, 96, 46]
abbrev dktX2_entries_1 : List UInt8 := dkwX2_entries_1 ++ dktX2_entries_2
def dkwX2_entries_0 : List UInt8 := [42, 42, 180, 0, 56, 27, 3, 6, 184, 0, 77, 182, 1, 37, 154, 0, 5, 3, 172, 3, 61, 3, 62, 29]
abbrev dktX2_entries_0 : List UInt8 := dkwX2_entries_0 ++ dktX2_entries_1
theorem dksX2_entries_0 : cX2_entries.data.toList.drop 0 = dktX2_entries_0 := by decide +kernel
theorem dksX2_entries_1 : cX2_entries.data.toList.drop 24 = dktX2_entries_1 := dk_seg dksX2_entries_0 24 rfl rfl
theorem dksX2_entries_2 : cX2_entries.data.toList.drop 48 = dktX2_entries_2 := dk_seg dksX2_entries_1 24 rfl rfl
theorem dX2_entries_0 : decode cX2_entries 0 = .ok (.aload_n 0, 1) := dk_42 (dk_at dksX2_entries_0 0 rfl rfl)
theorem dX2_entries_1 : decode cX2_entries 1 = .ok (.aload_n 0, 1) := dk_42 (dk_at dksX2_entries_0 1 rfl rfl)
theorem dX2_entries_2 : decode cX2_entries 2 = .ok (.getfield 56, 3) := dk_180 0 56 (dk_at dksX2_entries_0 2 rfl rfl)
theorem dX2_entries_5 : decode cX2_entries 5 = .ok (.iload_n 1, 1) := dk_27 (dk_at dksX2_entries_0 5 rfl rfl)
theorem dX2_entries_6 : decode cX2_entries 6 = .ok (.iconst 0, 1) := dk_3 (dk_at dksX2_entries_0 6 rfl rfl)
theorem dX2_entries_7 : decode cX2_entries 7 = .ok (.iconst 3, 1) := dk_6 (dk_at dksX2_entries_0 7 rfl rfl)
theorem dX2_entries_8 : decode cX2_entries 8 = .ok (.invokestatic 77, 3) := dk_184 0 77 (dk_at dksX2_entries_0 8 rfl rfl)
theorem dX2_entries_11 : decode cX2_entries 11 = .ok (.invokevirtual 293, 3) := dk_182 1 37 (dk_at dksX2_entries_0 11 rfl rfl)
theorem dX2_entries_14 : decode cX2_entries 14 = .ok (.ifCond .ne 5, 3) := dk_154 0 5 (dk_at dksX2_entries_0 14 rfl rfl)
theorem dX2_entries_17 : decode cX2_entries 17 = .ok (.iconst 0, 1) := dk_3 (dk_at dksX2_entries_0 17 rfl rfl)
theorem dX2_entries_18 : decode cX2_entries 18 = .ok (.ireturn, 1) := dk_172 (dk_at dksX2_entries_0 18 rfl rfl)
theorem dX2_entries_19 : decode cX2_entries 19 = .ok (.iconst 0, 1) := dk_3 (dk_at dksX2_entries_0 19 rfl rfl)
theorem dX2_entries_20 : decode cX2_entries 20 = .ok (.istore_n 2, 1) := dk_61 (dk_at dksX2_entries_0 20 rfl rfl)
theorem dX2_entries_21 : decode cX2_entries 21 = .ok (.iconst 0, 1) := dk_3 (dk_at dksX2_entries_0 21 rfl rfl)
theorem dX2_entries_22 : decode cX2_entries 22 = .ok (.istore_n 3, 1) := dk_62 (dk_at dksX2_entries_0 22 rfl rfl)
theorem dX2_entries_23 : decode cX2_entries 23 = .ok (.iload_n 3, 1) := dk_29 (dk_at dksX2_entries_0 23 rfl rfl)
theorem dX2_entries_24 : decode cX2_entries 24 = .ok (.aload_n 0, 1) := dk_42 (dk_at dksX2_entries_1 0 rfl rfl)
theorem dX2_entries_25 : decode cX2_entries 25 = .ok (.getfield 9, 3) := dk_180 0 9 (dk_at dksX2_entries_1 1 rfl rfl)
theorem dX2_entries_28 : decode cX2_entries 28 = .ok (.iconst 4, 1) := dk_7 (dk_at dksX2_entries_1 4 rfl rfl)
theorem dX2_entries_29 : decode cX2_entries 29 = .ok (.iaload, 1) := dk_46 (dk_at dksX2_entries_1 5 rfl rfl)
theorem dX2_entries_30 : decode cX2_entries 30 = .ok (.if_icmp .ge 38, 3) := dk_162 0 38 (dk_at dksX2_entries_1 6 rfl rfl)
theorem dX2_entries_33 : decode cX2_entries 33 = .ok (.iload_n 2, 1) := dk_28 (dk_at dksX2_entries_1 9 rfl rfl)
theorem dX2_entries_34 : decode cX2_entries 34 = .ok (.aload_n 0, 1) := dk_42 (dk_at dksX2_entries_1 10 rfl rfl)
theorem dX2_entries_35 : decode cX2_entries 35 = .ok (.getfield 9, 3) := dk_180 0 9 (dk_at dksX2_entries_1 11 rfl rfl)
theorem dX2_entries_38 : decode cX2_entries 38 = .ok (.sipush 1416, 3) := dk_17 5 136 (dk_at dksX2_entries_1 14 rfl rfl)
theorem dX2_entries_41 : decode cX2_entries 41 = .ok (.iconst 4, 1) := dk_7 (dk_at dksX2_entries_1 17 rfl rfl)
theorem dX2_entries_42 : decode cX2_entries 42 = .ok (.iload_n 3, 1) := dk_29 (dk_at dksX2_entries_1 18 rfl rfl)
theorem dX2_entries_43 : decode cX2_entries 43 = .ok (.imul, 1) := dk_104 (dk_at dksX2_entries_1 19 rfl rfl)
theorem dX2_entries_44 : decode cX2_entries 44 = .ok (.iadd, 1) := dk_96 (dk_at dksX2_entries_1 20 rfl rfl)
theorem dX2_entries_45 : decode cX2_entries 45 = .ok (.iconst 1, 1) := dk_4 (dk_at dksX2_entries_1 21 rfl rfl)
theorem dX2_entries_46 : decode cX2_entries 46 = .ok (.iadd, 1) := dk_96 (dk_at dksX2_entries_1 22 rfl rfl)
theorem dX2_entries_47 : decode cX2_entries 47 = .ok (.iaload, 1) := dk_46 (dk_at dksX2_entries_1 23 rfl rfl)
theorem dX2_entries_48 : decode cX2_entries 48 = .ok (.iload_n 1, 1) := dk_27 (dk_at dksX2_entries_2 0 rfl rfl)
theorem dX2_entries_49 : decode cX2_entries 49 = .ok (.if_icmp .ne 7, 3) := dk_160 0 7 (dk_at dksX2_entries_2 1 rfl rfl)
theorem dX2_entries_52 : decode cX2_entries 52 = .ok (.iconst 1, 1) := dk_4 (dk_at dksX2_entries_2 4 rfl rfl)
theorem dX2_entries_53 : decode cX2_entries 53 = .ok (.goto 4, 3) := dk_167 0 4 (dk_at dksX2_entries_2 5 rfl rfl)
theorem dX2_entries_56 : decode cX2_entries 56 = .ok (.iconst 0, 1) := dk_3 (dk_at dksX2_entries_2 8 rfl rfl)
theorem dX2_entries_57 : decode cX2_entries 57 = .ok (.invokestatic 260, 3) := dk_184 1 4 (dk_at dksX2_entries_2 9 rfl rfl)
theorem dX2_entries_60 : decode cX2_entries 60 = .ok (.iadd, 1) := dk_96 (dk_at dksX2_entries_2 12 rfl rfl)
theorem dX2_entries_61 : decode cX2_entries 61 = .ok (.istore_n 2, 1) := dk_61 (dk_at dksX2_entries_2 13 rfl rfl)
theorem dX2_entries_62 : decode cX2_entries 62 = .ok (.iinc 3 1, 3) := dk_132 3 1 (dk_at dksX2_entries_2 14 rfl rfl)
theorem dX2_entries_65 : decode cX2_entries 65 = .ok (.goto (-42), 3) := dk_167 255 214 (dk_at dksX2_entries_2 17 rfl rfl)
theorem dX2_entries_68 : decode cX2_entries 68 = .ok (.iload_n 2, 1) := dk_28 (dk_at dksX2_entries_2 20 rfl rfl)
theorem dX2_entries_69 : decode cX2_entries 69 = .ok (.ireturn, 1) := dk_172 (dk_at dksX2_entries_2 21 rfl rfl)
abbrev cX2_arrivesIn : ByteArray := prog_12_method_117_code
def yX2_arrivesIn : MethodName := ⟨RX2, "arrivesIn", "(I)I"⟩
def dkwX2_arrivesIn_0 : List UInt8 := [42, 27, 182, 1, 94, 154, 0, 5, 3, 172, 42, 182, 0, 220, 42, 42, 27, 182, 1, 123, 182, 0, 226, 172]
abbrev dktX2_arrivesIn_0 : List UInt8 := dkwX2_arrivesIn_0 ++ []
theorem dksX2_arrivesIn_0 : cX2_arrivesIn.data.toList.drop 0 = dktX2_arrivesIn_0 := by decide +kernel
theorem dX2_arrivesIn_0 : decode cX2_arrivesIn 0 = .ok (.aload_n 0, 1) := dk_42 (dk_at dksX2_arrivesIn_0 0 rfl rfl)
theorem dX2_arrivesIn_1 : decode cX2_arrivesIn 1 = .ok (.iload_n 1, 1) := dk_27 (dk_at dksX2_arrivesIn_0 1 rfl rfl)
theorem dX2_arrivesIn_2 : decode cX2_arrivesIn 2 = .ok (.invokevirtual 350, 3) := dk_182 1 94 (dk_at dksX2_arrivesIn_0 2 rfl rfl)
theorem dX2_arrivesIn_5 : decode cX2_arrivesIn 5 = .ok (.ifCond .ne 5, 3) := dk_154 0 5 (dk_at dksX2_arrivesIn_0 5 rfl rfl)
theorem dX2_arrivesIn_8 : decode cX2_arrivesIn 8 = .ok (.iconst 0, 1) := dk_3 (dk_at dksX2_arrivesIn_0 8 rfl rfl)
theorem dX2_arrivesIn_9 : decode cX2_arrivesIn 9 = .ok (.ireturn, 1) := dk_172 (dk_at dksX2_arrivesIn_0 9 rfl rfl)
theorem dX2_arrivesIn_10 : decode cX2_arrivesIn 10 = .ok (.aload_n 0, 1) := dk_42 (dk_at dksX2_arrivesIn_0 10 rfl rfl)
theorem dX2_arrivesIn_11 : decode cX2_arrivesIn 11 = .ok (.invokevirtual 220, 3) := dk_182 0 220 (dk_at dksX2_arrivesIn_0 11 rfl rfl)
theorem dX2_arrivesIn_14 : decode cX2_arrivesIn 14 = .ok (.aload_n 0, 1) := dk_42 (dk_at dksX2_arrivesIn_0 14 rfl rfl)
theorem dX2_arrivesIn_15 : decode cX2_arrivesIn 15 = .ok (.aload_n 0, 1) := dk_42 (dk_at dksX2_arrivesIn_0 15 rfl rfl)
theorem dX2_arrivesIn_16 : decode cX2_arrivesIn 16 = .ok (.iload_n 1, 1) := dk_27 (dk_at dksX2_arrivesIn_0 16 rfl rfl)
theorem dX2_arrivesIn_17 : decode cX2_arrivesIn 17 = .ok (.invokevirtual 379, 3) := dk_182 1 123 (dk_at dksX2_arrivesIn_0 17 rfl rfl)
theorem dX2_arrivesIn_20 : decode cX2_arrivesIn 20 = .ok (.invokevirtual 226, 3) := dk_182 0 226 (dk_at dksX2_arrivesIn_0 20 rfl rfl)
theorem dX2_arrivesIn_23 : decode cX2_arrivesIn 23 = .ok (.ireturn, 1) := dk_172 (dk_at dksX2_arrivesIn_0 23 rfl rfl)
abbrev cX2_arrives : ByteArray := prog_12_method_116_code
def yX2_arrives : MethodName := ⟨RX2, "arrives", "(I)I"⟩
def dkwX2_arrives_0 : List UInt8 := [3, 61, 42, 27, 182, 0, 146, 153, 0, 15, 42, 4, 182, 0, 192, 62, 132, 2, 1, 167, 255, 239, 28, 172]
abbrev dktX2_arrives_0 : List UInt8 := dkwX2_arrives_0 ++ []
theorem dksX2_arrives_0 : cX2_arrives.data.toList.drop 0 = dktX2_arrives_0 := by decide +kernel
theorem dX2_arrives_0 : decode cX2_arrives 0 = .ok (.iconst 0, 1) := dk_3 (dk_at dksX2_arrives_0 0 rfl rfl)
theorem dX2_arrives_1 : decode cX2_arrives 1 = .ok (.istore_n 2, 1) := dk_61 (dk_at dksX2_arrives_0 1 rfl rfl)
theorem dX2_arrives_2 : decode cX2_arrives 2 = .ok (.aload_n 0, 1) := dk_42 (dk_at dksX2_arrives_0 2 rfl rfl)
theorem dX2_arrives_3 : decode cX2_arrives 3 = .ok (.iload_n 1, 1) := dk_27 (dk_at dksX2_arrives_0 3 rfl rfl)
theorem dX2_arrives_4 : decode cX2_arrives 4 = .ok (.invokevirtual 146, 3) := dk_182 0 146 (dk_at dksX2_arrives_0 4 rfl rfl)
theorem dX2_arrives_7 : decode cX2_arrives 7 = .ok (.ifCond .eq 15, 3) := dk_153 0 15 (dk_at dksX2_arrives_0 7 rfl rfl)
theorem dX2_arrives_10 : decode cX2_arrives 10 = .ok (.aload_n 0, 1) := dk_42 (dk_at dksX2_arrives_0 10 rfl rfl)
theorem dX2_arrives_11 : decode cX2_arrives 11 = .ok (.iconst 1, 1) := dk_4 (dk_at dksX2_arrives_0 11 rfl rfl)
theorem dX2_arrives_12 : decode cX2_arrives 12 = .ok (.invokevirtual 192, 3) := dk_182 0 192 (dk_at dksX2_arrives_0 12 rfl rfl)
theorem dX2_arrives_15 : decode cX2_arrives 15 = .ok (.istore_n 3, 1) := dk_62 (dk_at dksX2_arrives_0 15 rfl rfl)
theorem dX2_arrives_16 : decode cX2_arrives 16 = .ok (.iinc 2 1, 3) := dk_132 2 1 (dk_at dksX2_arrives_0 16 rfl rfl)
theorem dX2_arrives_19 : decode cX2_arrives 19 = .ok (.goto (-17), 3) := dk_167 255 239 (dk_at dksX2_arrives_0 19 rfl rfl)
theorem dX2_arrives_22 : decode cX2_arrives 22 = .ok (.iload_n 2, 1) := dk_28 (dk_at dksX2_arrives_0 22 rfl rfl)
theorem dX2_arrives_23 : decode cX2_arrives 23 = .ok (.ireturn, 1) := dk_172 (dk_at dksX2_arrives_0 23 rfl rfl)
abbrev cX2_rightThen : ByteArray := prog_12_method_119_code
def yX2_rightThen : MethodName := ⟨RX2, "rightThen", "(I)I"⟩
def dkwX2_rightThen_0 : List UInt8 := [42, 27, 182, 1, 94, 154, 0, 5, 3, 172, 42, 182, 0, 220, 42, 27, 182, 1, 126, 172]
abbrev dktX2_rightThen_0 : List UInt8 := dkwX2_rightThen_0 ++ []
theorem dksX2_rightThen_0 : cX2_rightThen.data.toList.drop 0 = dktX2_rightThen_0 := by decide +kernel
theorem dX2_rightThen_0 : decode cX2_rightThen 0 = .ok (.aload_n 0, 1) := dk_42 (dk_at dksX2_rightThen_0 0 rfl rfl)
theorem dX2_rightThen_1 : decode cX2_rightThen 1 = .ok (.iload_n 1, 1) := dk_27 (dk_at dksX2_rightThen_0 1 rfl rfl)
theorem dX2_rightThen_2 : decode cX2_rightThen 2 = .ok (.invokevirtual 350, 3) := dk_182 1 94 (dk_at dksX2_rightThen_0 2 rfl rfl)
theorem dX2_rightThen_5 : decode cX2_rightThen 5 = .ok (.ifCond .ne 5, 3) := dk_154 0 5 (dk_at dksX2_rightThen_0 5 rfl rfl)
theorem dX2_rightThen_8 : decode cX2_rightThen 8 = .ok (.iconst 0, 1) := dk_3 (dk_at dksX2_rightThen_0 8 rfl rfl)
theorem dX2_rightThen_9 : decode cX2_rightThen 9 = .ok (.ireturn, 1) := dk_172 (dk_at dksX2_rightThen_0 9 rfl rfl)
theorem dX2_rightThen_10 : decode cX2_rightThen 10 = .ok (.aload_n 0, 1) := dk_42 (dk_at dksX2_rightThen_0 10 rfl rfl)
theorem dX2_rightThen_11 : decode cX2_rightThen 11 = .ok (.invokevirtual 220, 3) := dk_182 0 220 (dk_at dksX2_rightThen_0 11 rfl rfl)
theorem dX2_rightThen_14 : decode cX2_rightThen 14 = .ok (.aload_n 0, 1) := dk_42 (dk_at dksX2_rightThen_0 14 rfl rfl)
theorem dX2_rightThen_15 : decode cX2_rightThen 15 = .ok (.iload_n 1, 1) := dk_27 (dk_at dksX2_rightThen_0 15 rfl rfl)
theorem dX2_rightThen_16 : decode cX2_rightThen 16 = .ok (.invokevirtual 382, 3) := dk_182 1 126 (dk_at dksX2_rightThen_0 16 rfl rfl)
theorem dX2_rightThen_19 : decode cX2_rightThen 19 = .ok (.ireturn, 1) := dk_172 (dk_at dksX2_rightThen_0 19 rfl rfl)
abbrev cX2_rightAtEnd : ByteArray := prog_12_method_118_code
def yX2_rightAtEnd : MethodName := ⟨RX2, "rightAtEnd", "(I)I"⟩
def dkwX2_rightAtEnd_0 : List UInt8 := [42, 27, 182, 1, 123, 61, 42, 42, 27, 182, 1, 97, 182, 0, 226, 172]
abbrev dktX2_rightAtEnd_0 : List UInt8 := dkwX2_rightAtEnd_0 ++ []
theorem dksX2_rightAtEnd_0 : cX2_rightAtEnd.data.toList.drop 0 = dktX2_rightAtEnd_0 := by decide +kernel
theorem dX2_rightAtEnd_0 : decode cX2_rightAtEnd 0 = .ok (.aload_n 0, 1) := dk_42 (dk_at dksX2_rightAtEnd_0 0 rfl rfl)
theorem dX2_rightAtEnd_1 : decode cX2_rightAtEnd 1 = .ok (.iload_n 1, 1) := dk_27 (dk_at dksX2_rightAtEnd_0 1 rfl rfl)
theorem dX2_rightAtEnd_2 : decode cX2_rightAtEnd 2 = .ok (.invokevirtual 379, 3) := dk_182 1 123 (dk_at dksX2_rightAtEnd_0 2 rfl rfl)
theorem dX2_rightAtEnd_5 : decode cX2_rightAtEnd 5 = .ok (.istore_n 2, 1) := dk_61 (dk_at dksX2_rightAtEnd_0 5 rfl rfl)
theorem dX2_rightAtEnd_6 : decode cX2_rightAtEnd 6 = .ok (.aload_n 0, 1) := dk_42 (dk_at dksX2_rightAtEnd_0 6 rfl rfl)
theorem dX2_rightAtEnd_7 : decode cX2_rightAtEnd 7 = .ok (.aload_n 0, 1) := dk_42 (dk_at dksX2_rightAtEnd_0 7 rfl rfl)
theorem dX2_rightAtEnd_8 : decode cX2_rightAtEnd 8 = .ok (.iload_n 1, 1) := dk_27 (dk_at dksX2_rightAtEnd_0 8 rfl rfl)
theorem dX2_rightAtEnd_9 : decode cX2_rightAtEnd 9 = .ok (.invokevirtual 353, 3) := dk_182 1 97 (dk_at dksX2_rightAtEnd_0 9 rfl rfl)
theorem dX2_rightAtEnd_12 : decode cX2_rightAtEnd 12 = .ok (.invokevirtual 226, 3) := dk_182 0 226 (dk_at dksX2_rightAtEnd_0 12 rfl rfl)
theorem dX2_rightAtEnd_15 : decode cX2_rightAtEnd 15 = .ok (.ireturn, 1) := dk_172 (dk_at dksX2_rightAtEnd_0 15 rfl rfl)
abbrev cX2_believedThen : ByteArray := prog_12_method_120_code
def yX2_believedThen : MethodName := ⟨RX2, "believedThen", "(II)I"⟩
def dkwX2_believedThen_1 : List UInt8 := [27, 182, 1, 123, 62, 42, 42, 27, 28, 182, 1, 91, 182, 0, 226, 172]
abbrev dktX2_believedThen_1 : List UInt8 := dkwX2_believedThen_1 ++ []
def dkwX2_believedThen_0 : List UInt8 := [42, 42, 180, 0, 56, 42, 27, 28, 182, 1, 76, 182, 1, 37, 154, 0, 5, 3, 172, 42, 182, 0, 220, 42]
abbrev dktX2_believedThen_0 : List UInt8 := dkwX2_believedThen_0 ++ dktX2_believedThen_1
theorem dksX2_believedThen_0 : cX2_believedThen.data.toList.drop 0 = dktX2_believedThen_0 := by decide +kernel
theorem dksX2_believedThen_1 : cX2_believedThen.data.toList.drop 24 = dktX2_believedThen_1 := dk_seg dksX2_believedThen_0 24 rfl rfl
theorem dX2_believedThen_0 : decode cX2_believedThen 0 = .ok (.aload_n 0, 1) := dk_42 (dk_at dksX2_believedThen_0 0 rfl rfl)
theorem dX2_believedThen_1 : decode cX2_believedThen 1 = .ok (.aload_n 0, 1) := dk_42 (dk_at dksX2_believedThen_0 1 rfl rfl)
theorem dX2_believedThen_2 : decode cX2_believedThen 2 = .ok (.getfield 56, 3) := dk_180 0 56 (dk_at dksX2_believedThen_0 2 rfl rfl)
theorem dX2_believedThen_5 : decode cX2_believedThen 5 = .ok (.aload_n 0, 1) := dk_42 (dk_at dksX2_believedThen_0 5 rfl rfl)
theorem dX2_believedThen_6 : decode cX2_believedThen 6 = .ok (.iload_n 1, 1) := dk_27 (dk_at dksX2_believedThen_0 6 rfl rfl)
theorem dX2_believedThen_7 : decode cX2_believedThen 7 = .ok (.iload_n 2, 1) := dk_28 (dk_at dksX2_believedThen_0 7 rfl rfl)
theorem dX2_believedThen_8 : decode cX2_believedThen 8 = .ok (.invokevirtual 332, 3) := dk_182 1 76 (dk_at dksX2_believedThen_0 8 rfl rfl)
theorem dX2_believedThen_11 : decode cX2_believedThen 11 = .ok (.invokevirtual 293, 3) := dk_182 1 37 (dk_at dksX2_believedThen_0 11 rfl rfl)
theorem dX2_believedThen_14 : decode cX2_believedThen 14 = .ok (.ifCond .ne 5, 3) := dk_154 0 5 (dk_at dksX2_believedThen_0 14 rfl rfl)
theorem dX2_believedThen_17 : decode cX2_believedThen 17 = .ok (.iconst 0, 1) := dk_3 (dk_at dksX2_believedThen_0 17 rfl rfl)
theorem dX2_believedThen_18 : decode cX2_believedThen 18 = .ok (.ireturn, 1) := dk_172 (dk_at dksX2_believedThen_0 18 rfl rfl)
theorem dX2_believedThen_19 : decode cX2_believedThen 19 = .ok (.aload_n 0, 1) := dk_42 (dk_at dksX2_believedThen_0 19 rfl rfl)
theorem dX2_believedThen_20 : decode cX2_believedThen 20 = .ok (.invokevirtual 220, 3) := dk_182 0 220 (dk_at dksX2_believedThen_0 20 rfl rfl)
theorem dX2_believedThen_23 : decode cX2_believedThen 23 = .ok (.aload_n 0, 1) := dk_42 (dk_at dksX2_believedThen_0 23 rfl rfl)
theorem dX2_believedThen_24 : decode cX2_believedThen 24 = .ok (.iload_n 1, 1) := dk_27 (dk_at dksX2_believedThen_1 0 rfl rfl)
theorem dX2_believedThen_25 : decode cX2_believedThen 25 = .ok (.invokevirtual 379, 3) := dk_182 1 123 (dk_at dksX2_believedThen_1 1 rfl rfl)
theorem dX2_believedThen_28 : decode cX2_believedThen 28 = .ok (.istore_n 3, 1) := dk_62 (dk_at dksX2_believedThen_1 4 rfl rfl)
theorem dX2_believedThen_29 : decode cX2_believedThen 29 = .ok (.aload_n 0, 1) := dk_42 (dk_at dksX2_believedThen_1 5 rfl rfl)
theorem dX2_believedThen_30 : decode cX2_believedThen 30 = .ok (.aload_n 0, 1) := dk_42 (dk_at dksX2_believedThen_1 6 rfl rfl)
theorem dX2_believedThen_31 : decode cX2_believedThen 31 = .ok (.iload_n 1, 1) := dk_27 (dk_at dksX2_believedThen_1 7 rfl rfl)
theorem dX2_believedThen_32 : decode cX2_believedThen 32 = .ok (.iload_n 2, 1) := dk_28 (dk_at dksX2_believedThen_1 8 rfl rfl)
theorem dX2_believedThen_33 : decode cX2_believedThen 33 = .ok (.invokevirtual 347, 3) := dk_182 1 91 (dk_at dksX2_believedThen_1 9 rfl rfl)
theorem dX2_believedThen_36 : decode cX2_believedThen 36 = .ok (.invokevirtual 226, 3) := dk_182 0 226 (dk_at dksX2_believedThen_1 12 rfl rfl)
theorem dX2_believedThen_39 : decode cX2_believedThen 39 = .ok (.ireturn, 1) := dk_172 (dk_at dksX2_believedThen_1 15 rfl rfl)
abbrev cX2_rightIf : ByteArray := prog_12_method_123_code
def yX2_rightIf : MethodName := ⟨RX2, "rightIf", "(IIII)I"⟩
def dkwX2_rightIf_2 : List UInt8 := [167, 0, 4, 3, 172]
abbrev dktX2_rightIf_2 : List UInt8 := dkwX2_rightIf_2 ++ []
def dkwX2_rightIf_1 : List UInt8 := [153, 0, 7, 4, 167, 0, 4, 3, 182, 0, 52, 153, 0, 15, 42, 27, 28, 29, 21, 4, 182, 1, 135]
abbrev dktX2_rightIf_1 : List UInt8 := dkwX2_rightIf_1 ++ dktX2_rightIf_2
def dkwX2_rightIf_0 : List UInt8 := [42, 42, 180, 0, 56, 42, 27, 28, 182, 1, 132, 29, 184, 1, 53, 153, 0, 15, 21, 4, 184, 1, 53]
abbrev dktX2_rightIf_0 : List UInt8 := dkwX2_rightIf_0 ++ dktX2_rightIf_1
theorem dksX2_rightIf_0 : cX2_rightIf.data.toList.drop 0 = dktX2_rightIf_0 := by decide +kernel
theorem dksX2_rightIf_1 : cX2_rightIf.data.toList.drop 23 = dktX2_rightIf_1 := dk_seg dksX2_rightIf_0 23 rfl rfl
theorem dksX2_rightIf_2 : cX2_rightIf.data.toList.drop 46 = dktX2_rightIf_2 := dk_seg dksX2_rightIf_1 23 rfl rfl
theorem dX2_rightIf_0 : decode cX2_rightIf 0 = .ok (.aload_n 0, 1) := dk_42 (dk_at dksX2_rightIf_0 0 rfl rfl)
theorem dX2_rightIf_1 : decode cX2_rightIf 1 = .ok (.aload_n 0, 1) := dk_42 (dk_at dksX2_rightIf_0 1 rfl rfl)
theorem dX2_rightIf_2 : decode cX2_rightIf 2 = .ok (.getfield 56, 3) := dk_180 0 56 (dk_at dksX2_rightIf_0 2 rfl rfl)
theorem dX2_rightIf_5 : decode cX2_rightIf 5 = .ok (.aload_n 0, 1) := dk_42 (dk_at dksX2_rightIf_0 5 rfl rfl)
theorem dX2_rightIf_6 : decode cX2_rightIf 6 = .ok (.iload_n 1, 1) := dk_27 (dk_at dksX2_rightIf_0 6 rfl rfl)
theorem dX2_rightIf_7 : decode cX2_rightIf 7 = .ok (.iload_n 2, 1) := dk_28 (dk_at dksX2_rightIf_0 7 rfl rfl)
theorem dX2_rightIf_8 : decode cX2_rightIf 8 = .ok (.invokevirtual 388, 3) := dk_182 1 132 (dk_at dksX2_rightIf_0 8 rfl rfl)
theorem dX2_rightIf_11 : decode cX2_rightIf 11 = .ok (.iload_n 3, 1) := dk_29 (dk_at dksX2_rightIf_0 11 rfl rfl)
theorem dX2_rightIf_12 : decode cX2_rightIf 12 = .ok (.invokestatic 309, 3) := dk_184 1 53 (dk_at dksX2_rightIf_0 12 rfl rfl)
theorem dX2_rightIf_15 : decode cX2_rightIf 15 = .ok (.ifCond .eq 15, 3) := dk_153 0 15 (dk_at dksX2_rightIf_0 15 rfl rfl)
theorem dX2_rightIf_18 : decode cX2_rightIf 18 = .ok (.iload 4, 2) := dk_21 4 (dk_at dksX2_rightIf_0 18 rfl rfl)
theorem dX2_rightIf_20 : decode cX2_rightIf 20 = .ok (.invokestatic 309, 3) := dk_184 1 53 (dk_at dksX2_rightIf_0 20 rfl rfl)
theorem dX2_rightIf_23 : decode cX2_rightIf 23 = .ok (.ifCond .eq 7, 3) := dk_153 0 7 (dk_at dksX2_rightIf_1 0 rfl rfl)
theorem dX2_rightIf_26 : decode cX2_rightIf 26 = .ok (.iconst 1, 1) := dk_4 (dk_at dksX2_rightIf_1 3 rfl rfl)
theorem dX2_rightIf_27 : decode cX2_rightIf 27 = .ok (.goto 4, 3) := dk_167 0 4 (dk_at dksX2_rightIf_1 4 rfl rfl)
theorem dX2_rightIf_30 : decode cX2_rightIf 30 = .ok (.iconst 0, 1) := dk_3 (dk_at dksX2_rightIf_1 7 rfl rfl)
theorem dX2_rightIf_31 : decode cX2_rightIf 31 = .ok (.invokevirtual 52, 3) := dk_182 0 52 (dk_at dksX2_rightIf_1 8 rfl rfl)
theorem dX2_rightIf_34 : decode cX2_rightIf 34 = .ok (.ifCond .eq 15, 3) := dk_153 0 15 (dk_at dksX2_rightIf_1 11 rfl rfl)
theorem dX2_rightIf_37 : decode cX2_rightIf 37 = .ok (.aload_n 0, 1) := dk_42 (dk_at dksX2_rightIf_1 14 rfl rfl)
theorem dX2_rightIf_38 : decode cX2_rightIf 38 = .ok (.iload_n 1, 1) := dk_27 (dk_at dksX2_rightIf_1 15 rfl rfl)
theorem dX2_rightIf_39 : decode cX2_rightIf 39 = .ok (.iload_n 2, 1) := dk_28 (dk_at dksX2_rightIf_1 16 rfl rfl)
theorem dX2_rightIf_40 : decode cX2_rightIf 40 = .ok (.iload_n 3, 1) := dk_29 (dk_at dksX2_rightIf_1 17 rfl rfl)
theorem dX2_rightIf_41 : decode cX2_rightIf 41 = .ok (.iload 4, 2) := dk_21 4 (dk_at dksX2_rightIf_1 18 rfl rfl)
theorem dX2_rightIf_43 : decode cX2_rightIf 43 = .ok (.invokevirtual 391, 3) := dk_182 1 135 (dk_at dksX2_rightIf_1 20 rfl rfl)
theorem dX2_rightIf_46 : decode cX2_rightIf 46 = .ok (.goto 4, 3) := dk_167 0 4 (dk_at dksX2_rightIf_2 0 rfl rfl)
theorem dX2_rightIf_49 : decode cX2_rightIf 49 = .ok (.iconst 0, 1) := dk_3 (dk_at dksX2_rightIf_2 3 rfl rfl)
theorem dX2_rightIf_50 : decode cX2_rightIf 50 = .ok (.ireturn, 1) := dk_172 (dk_at dksX2_rightIf_2 4 rfl rfl)
abbrev cX2_areBoth : ByteArray := prog_12_method_121_code
def yX2_areBoth : MethodName := ⟨RX2, "areBoth", "(II)Z"⟩
def dkwX2_areBoth_0 : List UInt8 := [42, 27, 182, 1, 47, 153, 0, 15, 42, 28, 182, 1, 129, 153, 0, 7, 4, 167, 0, 4, 3, 172]
abbrev dktX2_areBoth_0 : List UInt8 := dkwX2_areBoth_0 ++ []
theorem dksX2_areBoth_0 : cX2_areBoth.data.toList.drop 0 = dktX2_areBoth_0 := by decide +kernel
theorem dX2_areBoth_0 : decode cX2_areBoth 0 = .ok (.aload_n 0, 1) := dk_42 (dk_at dksX2_areBoth_0 0 rfl rfl)
theorem dX2_areBoth_1 : decode cX2_areBoth 1 = .ok (.iload_n 1, 1) := dk_27 (dk_at dksX2_areBoth_0 1 rfl rfl)
theorem dX2_areBoth_2 : decode cX2_areBoth 2 = .ok (.invokevirtual 303, 3) := dk_182 1 47 (dk_at dksX2_areBoth_0 2 rfl rfl)
theorem dX2_areBoth_5 : decode cX2_areBoth 5 = .ok (.ifCond .eq 15, 3) := dk_153 0 15 (dk_at dksX2_areBoth_0 5 rfl rfl)
theorem dX2_areBoth_8 : decode cX2_areBoth 8 = .ok (.aload_n 0, 1) := dk_42 (dk_at dksX2_areBoth_0 8 rfl rfl)
theorem dX2_areBoth_9 : decode cX2_areBoth 9 = .ok (.iload_n 2, 1) := dk_28 (dk_at dksX2_areBoth_0 9 rfl rfl)
theorem dX2_areBoth_10 : decode cX2_areBoth 10 = .ok (.invokevirtual 385, 3) := dk_182 1 129 (dk_at dksX2_areBoth_0 10 rfl rfl)
theorem dX2_areBoth_13 : decode cX2_areBoth 13 = .ok (.ifCond .eq 7, 3) := dk_153 0 7 (dk_at dksX2_areBoth_0 13 rfl rfl)
theorem dX2_areBoth_16 : decode cX2_areBoth 16 = .ok (.iconst 1, 1) := dk_4 (dk_at dksX2_areBoth_0 16 rfl rfl)
theorem dX2_areBoth_17 : decode cX2_areBoth 17 = .ok (.goto 4, 3) := dk_167 0 4 (dk_at dksX2_areBoth_0 17 rfl rfl)
theorem dX2_areBoth_20 : decode cX2_areBoth 20 = .ok (.iconst 0, 1) := dk_3 (dk_at dksX2_areBoth_0 20 rfl rfl)
theorem dX2_areBoth_21 : decode cX2_areBoth 21 = .ok (.ireturn, 1) := dk_172 (dk_at dksX2_areBoth_0 21 rfl rfl)
abbrev cX2_isWireNumber : ByteArray := prog_12_method_69_code
def yX2_isWireNumber : MethodName := ⟨RX2, "isWireNumber", "(I)Z"⟩
def dkwX2_isWireNumber_1 : List UInt8 := [4, 167, 0, 4, 3, 172]
abbrev dktX2_isWireNumber_1 : List UInt8 := dkwX2_isWireNumber_1 ++ []
def dkwX2_isWireNumber_0 : List UInt8 := [42, 180, 0, 56, 153, 0, 24, 27, 3, 16, 9, 42, 182, 1, 17, 104, 4, 100, 184, 0, 77, 153, 0, 7]
abbrev dktX2_isWireNumber_0 : List UInt8 := dkwX2_isWireNumber_0 ++ dktX2_isWireNumber_1
theorem dksX2_isWireNumber_0 : cX2_isWireNumber.data.toList.drop 0 = dktX2_isWireNumber_0 := by decide +kernel
theorem dksX2_isWireNumber_1 : cX2_isWireNumber.data.toList.drop 24 = dktX2_isWireNumber_1 := dk_seg dksX2_isWireNumber_0 24 rfl rfl
theorem dX2_isWireNumber_0 : decode cX2_isWireNumber 0 = .ok (.aload_n 0, 1) := dk_42 (dk_at dksX2_isWireNumber_0 0 rfl rfl)
theorem dX2_isWireNumber_1 : decode cX2_isWireNumber 1 = .ok (.getfield 56, 3) := dk_180 0 56 (dk_at dksX2_isWireNumber_0 1 rfl rfl)
theorem dX2_isWireNumber_4 : decode cX2_isWireNumber 4 = .ok (.ifCond .eq 24, 3) := dk_153 0 24 (dk_at dksX2_isWireNumber_0 4 rfl rfl)
theorem dX2_isWireNumber_7 : decode cX2_isWireNumber 7 = .ok (.iload_n 1, 1) := dk_27 (dk_at dksX2_isWireNumber_0 7 rfl rfl)
theorem dX2_isWireNumber_8 : decode cX2_isWireNumber 8 = .ok (.iconst 0, 1) := dk_3 (dk_at dksX2_isWireNumber_0 8 rfl rfl)
theorem dX2_isWireNumber_9 : decode cX2_isWireNumber 9 = .ok (.bipush 9, 2) := dk_16 9 (dk_at dksX2_isWireNumber_0 9 rfl rfl)
theorem dX2_isWireNumber_11 : decode cX2_isWireNumber 11 = .ok (.aload_n 0, 1) := dk_42 (dk_at dksX2_isWireNumber_0 11 rfl rfl)
theorem dX2_isWireNumber_12 : decode cX2_isWireNumber 12 = .ok (.invokevirtual 273, 3) := dk_182 1 17 (dk_at dksX2_isWireNumber_0 12 rfl rfl)
theorem dX2_isWireNumber_15 : decode cX2_isWireNumber 15 = .ok (.imul, 1) := dk_104 (dk_at dksX2_isWireNumber_0 15 rfl rfl)
theorem dX2_isWireNumber_16 : decode cX2_isWireNumber 16 = .ok (.iconst 1, 1) := dk_4 (dk_at dksX2_isWireNumber_0 16 rfl rfl)
theorem dX2_isWireNumber_17 : decode cX2_isWireNumber 17 = .ok (.isub, 1) := dk_100 (dk_at dksX2_isWireNumber_0 17 rfl rfl)
theorem dX2_isWireNumber_18 : decode cX2_isWireNumber 18 = .ok (.invokestatic 77, 3) := dk_184 0 77 (dk_at dksX2_isWireNumber_0 18 rfl rfl)
theorem dX2_isWireNumber_21 : decode cX2_isWireNumber 21 = .ok (.ifCond .eq 7, 3) := dk_153 0 7 (dk_at dksX2_isWireNumber_0 21 rfl rfl)
theorem dX2_isWireNumber_24 : decode cX2_isWireNumber 24 = .ok (.iconst 1, 1) := dk_4 (dk_at dksX2_isWireNumber_1 0 rfl rfl)
theorem dX2_isWireNumber_25 : decode cX2_isWireNumber 25 = .ok (.goto 4, 3) := dk_167 0 4 (dk_at dksX2_isWireNumber_1 1 rfl rfl)
theorem dX2_isWireNumber_28 : decode cX2_isWireNumber 28 = .ok (.iconst 0, 1) := dk_3 (dk_at dksX2_isWireNumber_1 4 rfl rfl)
theorem dX2_isWireNumber_29 : decode cX2_isWireNumber 29 = .ok (.ireturn, 1) := dk_172 (dk_at dksX2_isWireNumber_1 5 rfl rfl)
abbrev cX2_rightWith : ByteArray := prog_12_method_122_code
def yX2_rightWith : MethodName := ⟨RX2, "rightWith", "(IIII)I"⟩
def dkwX2_rightWith_0 : List UInt8 := [42, 182, 0, 220, 42, 28, 29, 21, 4, 182, 0, 130, 42, 27, 182, 1, 126, 172]
abbrev dktX2_rightWith_0 : List UInt8 := dkwX2_rightWith_0 ++ []
theorem dksX2_rightWith_0 : cX2_rightWith.data.toList.drop 0 = dktX2_rightWith_0 := by decide +kernel
theorem dX2_rightWith_0 : decode cX2_rightWith 0 = .ok (.aload_n 0, 1) := dk_42 (dk_at dksX2_rightWith_0 0 rfl rfl)
theorem dX2_rightWith_1 : decode cX2_rightWith 1 = .ok (.invokevirtual 220, 3) := dk_182 0 220 (dk_at dksX2_rightWith_0 1 rfl rfl)
theorem dX2_rightWith_4 : decode cX2_rightWith 4 = .ok (.aload_n 0, 1) := dk_42 (dk_at dksX2_rightWith_0 4 rfl rfl)
theorem dX2_rightWith_5 : decode cX2_rightWith 5 = .ok (.iload_n 2, 1) := dk_28 (dk_at dksX2_rightWith_0 5 rfl rfl)
theorem dX2_rightWith_6 : decode cX2_rightWith 6 = .ok (.iload_n 3, 1) := dk_29 (dk_at dksX2_rightWith_0 6 rfl rfl)
theorem dX2_rightWith_7 : decode cX2_rightWith 7 = .ok (.iload 4, 2) := dk_21 4 (dk_at dksX2_rightWith_0 7 rfl rfl)
theorem dX2_rightWith_9 : decode cX2_rightWith 9 = .ok (.invokevirtual 130, 3) := dk_182 0 130 (dk_at dksX2_rightWith_0 9 rfl rfl)
theorem dX2_rightWith_12 : decode cX2_rightWith 12 = .ok (.aload_n 0, 1) := dk_42 (dk_at dksX2_rightWith_0 12 rfl rfl)
theorem dX2_rightWith_13 : decode cX2_rightWith 13 = .ok (.iload_n 1, 1) := dk_27 (dk_at dksX2_rightWith_0 13 rfl rfl)
theorem dX2_rightWith_14 : decode cX2_rightWith 14 = .ok (.invokevirtual 382, 3) := dk_182 1 126 (dk_at dksX2_rightWith_0 14 rfl rfl)
theorem dX2_rightWith_17 : decode cX2_rightWith 17 = .ok (.ireturn, 1) := dk_172 (dk_at dksX2_rightWith_0 17 rfl rfl)
abbrev cX2_needless : ByteArray := prog_12_method_126_code
def yX2_needless : MethodName := ⟨RX2, "needless", "(II)Z"⟩
def dkwX2_needless_1 : List UInt8 := [153, 0, 7, 4, 167, 0, 4, 3, 172]
abbrev dktX2_needless_1 : List UInt8 := dkwX2_needless_1 ++ []
def dkwX2_needless_0 : List UInt8 := [42, 42, 180, 0, 56, 42, 27, 28, 182, 1, 132, 182, 1, 37, 153, 0, 16, 42, 27, 28, 182, 1, 142]
abbrev dktX2_needless_0 : List UInt8 := dkwX2_needless_0 ++ dktX2_needless_1
theorem dksX2_needless_0 : cX2_needless.data.toList.drop 0 = dktX2_needless_0 := by decide +kernel
theorem dksX2_needless_1 : cX2_needless.data.toList.drop 23 = dktX2_needless_1 := dk_seg dksX2_needless_0 23 rfl rfl
theorem dX2_needless_0 : decode cX2_needless 0 = .ok (.aload_n 0, 1) := dk_42 (dk_at dksX2_needless_0 0 rfl rfl)
theorem dX2_needless_1 : decode cX2_needless 1 = .ok (.aload_n 0, 1) := dk_42 (dk_at dksX2_needless_0 1 rfl rfl)
theorem dX2_needless_2 : decode cX2_needless 2 = .ok (.getfield 56, 3) := dk_180 0 56 (dk_at dksX2_needless_0 2 rfl rfl)
theorem dX2_needless_5 : decode cX2_needless 5 = .ok (.aload_n 0, 1) := dk_42 (dk_at dksX2_needless_0 5 rfl rfl)
theorem dX2_needless_6 : decode cX2_needless 6 = .ok (.iload_n 1, 1) := dk_27 (dk_at dksX2_needless_0 6 rfl rfl)
theorem dX2_needless_7 : decode cX2_needless 7 = .ok (.iload_n 2, 1) := dk_28 (dk_at dksX2_needless_0 7 rfl rfl)
theorem dX2_needless_8 : decode cX2_needless 8 = .ok (.invokevirtual 388, 3) := dk_182 1 132 (dk_at dksX2_needless_0 8 rfl rfl)
theorem dX2_needless_11 : decode cX2_needless 11 = .ok (.invokevirtual 293, 3) := dk_182 1 37 (dk_at dksX2_needless_0 11 rfl rfl)
theorem dX2_needless_14 : decode cX2_needless 14 = .ok (.ifCond .eq 16, 3) := dk_153 0 16 (dk_at dksX2_needless_0 14 rfl rfl)
theorem dX2_needless_17 : decode cX2_needless 17 = .ok (.aload_n 0, 1) := dk_42 (dk_at dksX2_needless_0 17 rfl rfl)
theorem dX2_needless_18 : decode cX2_needless 18 = .ok (.iload_n 1, 1) := dk_27 (dk_at dksX2_needless_0 18 rfl rfl)
theorem dX2_needless_19 : decode cX2_needless 19 = .ok (.iload_n 2, 1) := dk_28 (dk_at dksX2_needless_0 19 rfl rfl)
theorem dX2_needless_20 : decode cX2_needless 20 = .ok (.invokevirtual 398, 3) := dk_182 1 142 (dk_at dksX2_needless_0 20 rfl rfl)
theorem dX2_needless_23 : decode cX2_needless 23 = .ok (.ifCond .eq 7, 3) := dk_153 0 7 (dk_at dksX2_needless_1 0 rfl rfl)
theorem dX2_needless_26 : decode cX2_needless 26 = .ok (.iconst 1, 1) := dk_4 (dk_at dksX2_needless_1 3 rfl rfl)
theorem dX2_needless_27 : decode cX2_needless 27 = .ok (.goto 4, 3) := dk_167 0 4 (dk_at dksX2_needless_1 4 rfl rfl)
theorem dX2_needless_30 : decode cX2_needless 30 = .ok (.iconst 0, 1) := dk_3 (dk_at dksX2_needless_1 7 rfl rfl)
theorem dX2_needless_31 : decode cX2_needless 31 = .ok (.ireturn, 1) := dk_172 (dk_at dksX2_needless_1 8 rfl rfl)
abbrev cX2_isNeedless : ByteArray := prog_12_method_125_code
def yX2_isNeedless : MethodName := ⟨RX2, "isNeedless", "(II)Z"⟩
def dkwX2_isNeedless_2 : List UInt8 := [180, 0, 34, 29, 46, 42, 180, 0, 37, 29, 46, 159, 0, 5, 3, 172, 132, 3, 1, 167, 255, 226, 4, 172]
abbrev dktX2_isNeedless_2 : List UInt8 := dkwX2_isNeedless_2 ++ []
def dkwX2_isNeedless_1 : List UInt8 := [42, 27, 42, 180, 0, 37, 182, 1, 138, 3, 62, 29, 42, 27, 3, 182, 0, 238, 162, 0, 26, 42]
abbrev dktX2_isNeedless_1 : List UInt8 := dkwX2_isNeedless_1 ++ dktX2_isNeedless_2
def dkwX2_isNeedless_0 : List UInt8 := [42, 182, 0, 220, 42, 27, 42, 180, 0, 34, 182, 1, 138, 42, 182, 0, 220, 42, 28, 5, 4, 182, 0, 137]
abbrev dktX2_isNeedless_0 : List UInt8 := dkwX2_isNeedless_0 ++ dktX2_isNeedless_1
theorem dksX2_isNeedless_0 : cX2_isNeedless.data.toList.drop 0 = dktX2_isNeedless_0 := by decide +kernel
theorem dksX2_isNeedless_1 : cX2_isNeedless.data.toList.drop 24 = dktX2_isNeedless_1 := dk_seg dksX2_isNeedless_0 24 rfl rfl
theorem dksX2_isNeedless_2 : cX2_isNeedless.data.toList.drop 46 = dktX2_isNeedless_2 := dk_seg dksX2_isNeedless_1 22 rfl rfl
theorem dX2_isNeedless_0 : decode cX2_isNeedless 0 = .ok (.aload_n 0, 1) := dk_42 (dk_at dksX2_isNeedless_0 0 rfl rfl)
theorem dX2_isNeedless_1 : decode cX2_isNeedless 1 = .ok (.invokevirtual 220, 3) := dk_182 0 220 (dk_at dksX2_isNeedless_0 1 rfl rfl)
theorem dX2_isNeedless_4 : decode cX2_isNeedless 4 = .ok (.aload_n 0, 1) := dk_42 (dk_at dksX2_isNeedless_0 4 rfl rfl)
theorem dX2_isNeedless_5 : decode cX2_isNeedless 5 = .ok (.iload_n 1, 1) := dk_27 (dk_at dksX2_isNeedless_0 5 rfl rfl)
theorem dX2_isNeedless_6 : decode cX2_isNeedless 6 = .ok (.aload_n 0, 1) := dk_42 (dk_at dksX2_isNeedless_0 6 rfl rfl)
theorem dX2_isNeedless_7 : decode cX2_isNeedless 7 = .ok (.getfield 34, 3) := dk_180 0 34 (dk_at dksX2_isNeedless_0 7 rfl rfl)
theorem dX2_isNeedless_10 : decode cX2_isNeedless 10 = .ok (.invokevirtual 394, 3) := dk_182 1 138 (dk_at dksX2_isNeedless_0 10 rfl rfl)
theorem dX2_isNeedless_13 : decode cX2_isNeedless 13 = .ok (.aload_n 0, 1) := dk_42 (dk_at dksX2_isNeedless_0 13 rfl rfl)
theorem dX2_isNeedless_14 : decode cX2_isNeedless 14 = .ok (.invokevirtual 220, 3) := dk_182 0 220 (dk_at dksX2_isNeedless_0 14 rfl rfl)
theorem dX2_isNeedless_17 : decode cX2_isNeedless 17 = .ok (.aload_n 0, 1) := dk_42 (dk_at dksX2_isNeedless_0 17 rfl rfl)
theorem dX2_isNeedless_18 : decode cX2_isNeedless 18 = .ok (.iload_n 2, 1) := dk_28 (dk_at dksX2_isNeedless_0 18 rfl rfl)
theorem dX2_isNeedless_19 : decode cX2_isNeedless 19 = .ok (.iconst 2, 1) := dk_5 (dk_at dksX2_isNeedless_0 19 rfl rfl)
theorem dX2_isNeedless_20 : decode cX2_isNeedless 20 = .ok (.iconst 1, 1) := dk_4 (dk_at dksX2_isNeedless_0 20 rfl rfl)
theorem dX2_isNeedless_21 : decode cX2_isNeedless 21 = .ok (.invokevirtual 137, 3) := dk_182 0 137 (dk_at dksX2_isNeedless_0 21 rfl rfl)
theorem dX2_isNeedless_24 : decode cX2_isNeedless 24 = .ok (.aload_n 0, 1) := dk_42 (dk_at dksX2_isNeedless_1 0 rfl rfl)
theorem dX2_isNeedless_25 : decode cX2_isNeedless 25 = .ok (.iload_n 1, 1) := dk_27 (dk_at dksX2_isNeedless_1 1 rfl rfl)
theorem dX2_isNeedless_26 : decode cX2_isNeedless 26 = .ok (.aload_n 0, 1) := dk_42 (dk_at dksX2_isNeedless_1 2 rfl rfl)
theorem dX2_isNeedless_27 : decode cX2_isNeedless 27 = .ok (.getfield 37, 3) := dk_180 0 37 (dk_at dksX2_isNeedless_1 3 rfl rfl)
theorem dX2_isNeedless_30 : decode cX2_isNeedless 30 = .ok (.invokevirtual 394, 3) := dk_182 1 138 (dk_at dksX2_isNeedless_1 6 rfl rfl)
theorem dX2_isNeedless_33 : decode cX2_isNeedless 33 = .ok (.iconst 0, 1) := dk_3 (dk_at dksX2_isNeedless_1 9 rfl rfl)
theorem dX2_isNeedless_34 : decode cX2_isNeedless 34 = .ok (.istore_n 3, 1) := dk_62 (dk_at dksX2_isNeedless_1 10 rfl rfl)
theorem dX2_isNeedless_35 : decode cX2_isNeedless 35 = .ok (.iload_n 3, 1) := dk_29 (dk_at dksX2_isNeedless_1 11 rfl rfl)
theorem dX2_isNeedless_36 : decode cX2_isNeedless 36 = .ok (.aload_n 0, 1) := dk_42 (dk_at dksX2_isNeedless_1 12 rfl rfl)
theorem dX2_isNeedless_37 : decode cX2_isNeedless 37 = .ok (.iload_n 1, 1) := dk_27 (dk_at dksX2_isNeedless_1 13 rfl rfl)
theorem dX2_isNeedless_38 : decode cX2_isNeedless 38 = .ok (.iconst 0, 1) := dk_3 (dk_at dksX2_isNeedless_1 14 rfl rfl)
theorem dX2_isNeedless_39 : decode cX2_isNeedless 39 = .ok (.invokevirtual 238, 3) := dk_182 0 238 (dk_at dksX2_isNeedless_1 15 rfl rfl)
theorem dX2_isNeedless_42 : decode cX2_isNeedless 42 = .ok (.if_icmp .ge 26, 3) := dk_162 0 26 (dk_at dksX2_isNeedless_1 18 rfl rfl)
theorem dX2_isNeedless_45 : decode cX2_isNeedless 45 = .ok (.aload_n 0, 1) := dk_42 (dk_at dksX2_isNeedless_1 21 rfl rfl)
theorem dX2_isNeedless_46 : decode cX2_isNeedless 46 = .ok (.getfield 34, 3) := dk_180 0 34 (dk_at dksX2_isNeedless_2 0 rfl rfl)
theorem dX2_isNeedless_49 : decode cX2_isNeedless 49 = .ok (.iload_n 3, 1) := dk_29 (dk_at dksX2_isNeedless_2 3 rfl rfl)
theorem dX2_isNeedless_50 : decode cX2_isNeedless 50 = .ok (.iaload, 1) := dk_46 (dk_at dksX2_isNeedless_2 4 rfl rfl)
theorem dX2_isNeedless_51 : decode cX2_isNeedless 51 = .ok (.aload_n 0, 1) := dk_42 (dk_at dksX2_isNeedless_2 5 rfl rfl)
theorem dX2_isNeedless_52 : decode cX2_isNeedless 52 = .ok (.getfield 37, 3) := dk_180 0 37 (dk_at dksX2_isNeedless_2 6 rfl rfl)
theorem dX2_isNeedless_55 : decode cX2_isNeedless 55 = .ok (.iload_n 3, 1) := dk_29 (dk_at dksX2_isNeedless_2 9 rfl rfl)
theorem dX2_isNeedless_56 : decode cX2_isNeedless 56 = .ok (.iaload, 1) := dk_46 (dk_at dksX2_isNeedless_2 10 rfl rfl)
theorem dX2_isNeedless_57 : decode cX2_isNeedless 57 = .ok (.if_icmp .eq 5, 3) := dk_159 0 5 (dk_at dksX2_isNeedless_2 11 rfl rfl)
theorem dX2_isNeedless_60 : decode cX2_isNeedless 60 = .ok (.iconst 0, 1) := dk_3 (dk_at dksX2_isNeedless_2 14 rfl rfl)
theorem dX2_isNeedless_61 : decode cX2_isNeedless 61 = .ok (.ireturn, 1) := dk_172 (dk_at dksX2_isNeedless_2 15 rfl rfl)
theorem dX2_isNeedless_62 : decode cX2_isNeedless 62 = .ok (.iinc 3 1, 3) := dk_132 3 1 (dk_at dksX2_isNeedless_2 16 rfl rfl)
theorem dX2_isNeedless_65 : decode cX2_isNeedless 65 = .ok (.goto (-30), 3) := dk_167 255 226 (dk_at dksX2_isNeedless_2 19 rfl rfl)
theorem dX2_isNeedless_68 : decode cX2_isNeedless 68 = .ok (.iconst 1, 1) := dk_4 (dk_at dksX2_isNeedless_2 22 rfl rfl)
theorem dX2_isNeedless_69 : decode cX2_isNeedless 69 = .ok (.ireturn, 1) := dk_172 (dk_at dksX2_isNeedless_2 23 rfl rfl)
abbrev cX2_laysEnd : ByteArray := prog_12_method_124_code
def yX2_laysEnd : MethodName := ⟨RX2, "laysEnd", "(I[I)V"⟩
def dkwX2_laysEnd_1 : List UInt8 := [27, 21, 4, 182, 1, 91, 79, 132, 4, 1, 167, 255, 231, 42, 3, 182, 0, 226, 62, 177]
abbrev dktX2_laysEnd_1 : List UInt8 := dkwX2_laysEnd_1 ++ []
def dkwX2_laysEnd_0 : List UInt8 := [42, 27, 182, 1, 123, 62, 3, 54, 4, 21, 4, 42, 27, 3, 182, 0, 238, 162, 0, 20, 44, 21, 4, 42]
abbrev dktX2_laysEnd_0 : List UInt8 := dkwX2_laysEnd_0 ++ dktX2_laysEnd_1
theorem dksX2_laysEnd_0 : cX2_laysEnd.data.toList.drop 0 = dktX2_laysEnd_0 := by decide +kernel
theorem dksX2_laysEnd_1 : cX2_laysEnd.data.toList.drop 24 = dktX2_laysEnd_1 := dk_seg dksX2_laysEnd_0 24 rfl rfl
theorem dX2_laysEnd_0 : decode cX2_laysEnd 0 = .ok (.aload_n 0, 1) := dk_42 (dk_at dksX2_laysEnd_0 0 rfl rfl)
theorem dX2_laysEnd_1 : decode cX2_laysEnd 1 = .ok (.iload_n 1, 1) := dk_27 (dk_at dksX2_laysEnd_0 1 rfl rfl)
theorem dX2_laysEnd_2 : decode cX2_laysEnd 2 = .ok (.invokevirtual 379, 3) := dk_182 1 123 (dk_at dksX2_laysEnd_0 2 rfl rfl)
theorem dX2_laysEnd_5 : decode cX2_laysEnd 5 = .ok (.istore_n 3, 1) := dk_62 (dk_at dksX2_laysEnd_0 5 rfl rfl)
theorem dX2_laysEnd_6 : decode cX2_laysEnd 6 = .ok (.iconst 0, 1) := dk_3 (dk_at dksX2_laysEnd_0 6 rfl rfl)
theorem dX2_laysEnd_7 : decode cX2_laysEnd 7 = .ok (.istore 4, 2) := dk_54 4 (dk_at dksX2_laysEnd_0 7 rfl rfl)
theorem dX2_laysEnd_9 : decode cX2_laysEnd 9 = .ok (.iload 4, 2) := dk_21 4 (dk_at dksX2_laysEnd_0 9 rfl rfl)
theorem dX2_laysEnd_11 : decode cX2_laysEnd 11 = .ok (.aload_n 0, 1) := dk_42 (dk_at dksX2_laysEnd_0 11 rfl rfl)
theorem dX2_laysEnd_12 : decode cX2_laysEnd 12 = .ok (.iload_n 1, 1) := dk_27 (dk_at dksX2_laysEnd_0 12 rfl rfl)
theorem dX2_laysEnd_13 : decode cX2_laysEnd 13 = .ok (.iconst 0, 1) := dk_3 (dk_at dksX2_laysEnd_0 13 rfl rfl)
theorem dX2_laysEnd_14 : decode cX2_laysEnd 14 = .ok (.invokevirtual 238, 3) := dk_182 0 238 (dk_at dksX2_laysEnd_0 14 rfl rfl)
theorem dX2_laysEnd_17 : decode cX2_laysEnd 17 = .ok (.if_icmp .ge 20, 3) := dk_162 0 20 (dk_at dksX2_laysEnd_0 17 rfl rfl)
theorem dX2_laysEnd_20 : decode cX2_laysEnd 20 = .ok (.aload_n 2, 1) := dk_44 (dk_at dksX2_laysEnd_0 20 rfl rfl)
theorem dX2_laysEnd_21 : decode cX2_laysEnd 21 = .ok (.iload 4, 2) := dk_21 4 (dk_at dksX2_laysEnd_0 21 rfl rfl)
theorem dX2_laysEnd_23 : decode cX2_laysEnd 23 = .ok (.aload_n 0, 1) := dk_42 (dk_at dksX2_laysEnd_0 23 rfl rfl)
theorem dX2_laysEnd_24 : decode cX2_laysEnd 24 = .ok (.iload_n 1, 1) := dk_27 (dk_at dksX2_laysEnd_1 0 rfl rfl)
theorem dX2_laysEnd_25 : decode cX2_laysEnd 25 = .ok (.iload 4, 2) := dk_21 4 (dk_at dksX2_laysEnd_1 1 rfl rfl)
theorem dX2_laysEnd_27 : decode cX2_laysEnd 27 = .ok (.invokevirtual 347, 3) := dk_182 1 91 (dk_at dksX2_laysEnd_1 3 rfl rfl)
theorem dX2_laysEnd_30 : decode cX2_laysEnd 30 = .ok (.iastore, 1) := dk_79 (dk_at dksX2_laysEnd_1 6 rfl rfl)
theorem dX2_laysEnd_31 : decode cX2_laysEnd 31 = .ok (.iinc 4 1, 3) := dk_132 4 1 (dk_at dksX2_laysEnd_1 7 rfl rfl)
theorem dX2_laysEnd_34 : decode cX2_laysEnd 34 = .ok (.goto (-25), 3) := dk_167 255 231 (dk_at dksX2_laysEnd_1 10 rfl rfl)
theorem dX2_laysEnd_37 : decode cX2_laysEnd 37 = .ok (.aload_n 0, 1) := dk_42 (dk_at dksX2_laysEnd_1 13 rfl rfl)
theorem dX2_laysEnd_38 : decode cX2_laysEnd 38 = .ok (.iconst 0, 1) := dk_3 (dk_at dksX2_laysEnd_1 14 rfl rfl)
theorem dX2_laysEnd_39 : decode cX2_laysEnd 39 = .ok (.invokevirtual 226, 3) := dk_182 0 226 (dk_at dksX2_laysEnd_1 15 rfl rfl)
theorem dX2_laysEnd_42 : decode cX2_laysEnd 42 = .ok (.istore_n 3, 1) := dk_62 (dk_at dksX2_laysEnd_1 18 rfl rfl)
theorem dX2_laysEnd_43 : decode cX2_laysEnd 43 = .ok (.return_, 1) := dk_177 (dk_at dksX2_laysEnd_1 19 rfl rfl)
abbrev cX2_needed : ByteArray := prog_12_method_127_code
def yX2_needed : MethodName := ⟨RX2, "needed", "(I)I"⟩
def dkwX2_needed_2 : List UInt8 := [132, 3, 1, 167, 255, 222, 28, 172]
abbrev dktX2_needed_2 : List UInt8 := dkwX2_needed_2 ++ []
def dkwX2_needed_1 : List UInt8 := [162, 0, 29, 28, 42, 27, 29, 182, 1, 142, 154, 0, 7, 4, 167, 0, 4, 3, 184, 1, 4, 96, 61]
abbrev dktX2_needed_1 : List UInt8 := dkwX2_needed_1 ++ dktX2_needed_2
def dkwX2_needed_0 : List UInt8 := [42, 27, 182, 1, 94, 154, 0, 5, 3, 172, 3, 61, 3, 62, 29, 16, 9, 42, 182, 1, 17, 104]
abbrev dktX2_needed_0 : List UInt8 := dkwX2_needed_0 ++ dktX2_needed_1
theorem dksX2_needed_0 : cX2_needed.data.toList.drop 0 = dktX2_needed_0 := by decide +kernel
theorem dksX2_needed_1 : cX2_needed.data.toList.drop 22 = dktX2_needed_1 := dk_seg dksX2_needed_0 22 rfl rfl
theorem dksX2_needed_2 : cX2_needed.data.toList.drop 45 = dktX2_needed_2 := dk_seg dksX2_needed_1 23 rfl rfl
theorem dX2_needed_0 : decode cX2_needed 0 = .ok (.aload_n 0, 1) := dk_42 (dk_at dksX2_needed_0 0 rfl rfl)
theorem dX2_needed_1 : decode cX2_needed 1 = .ok (.iload_n 1, 1) := dk_27 (dk_at dksX2_needed_0 1 rfl rfl)
theorem dX2_needed_2 : decode cX2_needed 2 = .ok (.invokevirtual 350, 3) := dk_182 1 94 (dk_at dksX2_needed_0 2 rfl rfl)
theorem dX2_needed_5 : decode cX2_needed 5 = .ok (.ifCond .ne 5, 3) := dk_154 0 5 (dk_at dksX2_needed_0 5 rfl rfl)
theorem dX2_needed_8 : decode cX2_needed 8 = .ok (.iconst 0, 1) := dk_3 (dk_at dksX2_needed_0 8 rfl rfl)
theorem dX2_needed_9 : decode cX2_needed 9 = .ok (.ireturn, 1) := dk_172 (dk_at dksX2_needed_0 9 rfl rfl)
theorem dX2_needed_10 : decode cX2_needed 10 = .ok (.iconst 0, 1) := dk_3 (dk_at dksX2_needed_0 10 rfl rfl)
theorem dX2_needed_11 : decode cX2_needed 11 = .ok (.istore_n 2, 1) := dk_61 (dk_at dksX2_needed_0 11 rfl rfl)
theorem dX2_needed_12 : decode cX2_needed 12 = .ok (.iconst 0, 1) := dk_3 (dk_at dksX2_needed_0 12 rfl rfl)
theorem dX2_needed_13 : decode cX2_needed 13 = .ok (.istore_n 3, 1) := dk_62 (dk_at dksX2_needed_0 13 rfl rfl)
theorem dX2_needed_14 : decode cX2_needed 14 = .ok (.iload_n 3, 1) := dk_29 (dk_at dksX2_needed_0 14 rfl rfl)
theorem dX2_needed_15 : decode cX2_needed 15 = .ok (.bipush 9, 2) := dk_16 9 (dk_at dksX2_needed_0 15 rfl rfl)
theorem dX2_needed_17 : decode cX2_needed 17 = .ok (.aload_n 0, 1) := dk_42 (dk_at dksX2_needed_0 17 rfl rfl)
theorem dX2_needed_18 : decode cX2_needed 18 = .ok (.invokevirtual 273, 3) := dk_182 1 17 (dk_at dksX2_needed_0 18 rfl rfl)
theorem dX2_needed_21 : decode cX2_needed 21 = .ok (.imul, 1) := dk_104 (dk_at dksX2_needed_0 21 rfl rfl)
theorem dX2_needed_22 : decode cX2_needed 22 = .ok (.if_icmp .ge 29, 3) := dk_162 0 29 (dk_at dksX2_needed_1 0 rfl rfl)
theorem dX2_needed_25 : decode cX2_needed 25 = .ok (.iload_n 2, 1) := dk_28 (dk_at dksX2_needed_1 3 rfl rfl)
theorem dX2_needed_26 : decode cX2_needed 26 = .ok (.aload_n 0, 1) := dk_42 (dk_at dksX2_needed_1 4 rfl rfl)
theorem dX2_needed_27 : decode cX2_needed 27 = .ok (.iload_n 1, 1) := dk_27 (dk_at dksX2_needed_1 5 rfl rfl)
theorem dX2_needed_28 : decode cX2_needed 28 = .ok (.iload_n 3, 1) := dk_29 (dk_at dksX2_needed_1 6 rfl rfl)
theorem dX2_needed_29 : decode cX2_needed 29 = .ok (.invokevirtual 398, 3) := dk_182 1 142 (dk_at dksX2_needed_1 7 rfl rfl)
theorem dX2_needed_32 : decode cX2_needed 32 = .ok (.ifCond .ne 7, 3) := dk_154 0 7 (dk_at dksX2_needed_1 10 rfl rfl)
theorem dX2_needed_35 : decode cX2_needed 35 = .ok (.iconst 1, 1) := dk_4 (dk_at dksX2_needed_1 13 rfl rfl)
theorem dX2_needed_36 : decode cX2_needed 36 = .ok (.goto 4, 3) := dk_167 0 4 (dk_at dksX2_needed_1 14 rfl rfl)
theorem dX2_needed_39 : decode cX2_needed 39 = .ok (.iconst 0, 1) := dk_3 (dk_at dksX2_needed_1 17 rfl rfl)
theorem dX2_needed_40 : decode cX2_needed 40 = .ok (.invokestatic 260, 3) := dk_184 1 4 (dk_at dksX2_needed_1 18 rfl rfl)
theorem dX2_needed_43 : decode cX2_needed 43 = .ok (.iadd, 1) := dk_96 (dk_at dksX2_needed_1 21 rfl rfl)
theorem dX2_needed_44 : decode cX2_needed 44 = .ok (.istore_n 2, 1) := dk_61 (dk_at dksX2_needed_1 22 rfl rfl)
theorem dX2_needed_45 : decode cX2_needed 45 = .ok (.iinc 3 1, 3) := dk_132 3 1 (dk_at dksX2_needed_2 0 rfl rfl)
theorem dX2_needed_48 : decode cX2_needed 48 = .ok (.goto (-34), 3) := dk_167 255 222 (dk_at dksX2_needed_2 3 rfl rfl)
theorem dX2_needed_51 : decode cX2_needed 51 = .ok (.iload_n 2, 1) := dk_28 (dk_at dksX2_needed_2 6 rfl rfl)
theorem dX2_needed_52 : decode cX2_needed 52 = .ok (.ireturn, 1) := dk_172 (dk_at dksX2_needed_2 7 rfl rfl)
abbrev cX2_bestAsks : ByteArray := prog_12_method_128_code
def yX2_bestAsks : MethodName := ⟨RX2, "bestAsks", "(I)I"⟩
def dkwX2_bestAsks_2 : List UInt8 := [167, 0, 9, 21, 5, 62, 21, 4, 61, 132, 4, 1, 167, 255, 213, 28, 172]
abbrev dktX2_bestAsks_2 : List UInt8 := dkwX2_bestAsks_2 ++ []
def dkwX2_bestAsks_1 : List UInt8 := [182, 0, 220, 42, 180, 0, 9, 4, 21, 4, 79, 42, 27, 182, 1, 126, 54, 5, 21, 5, 29, 163, 0, 6]
abbrev dktX2_bestAsks_1 : List UInt8 := dkwX2_bestAsks_1 ++ dktX2_bestAsks_2
def dkwX2_bestAsks_0 : List UInt8 := [42, 27, 182, 1, 94, 154, 0, 5, 3, 172, 3, 61, 2, 62, 3, 54, 4, 21, 4, 8, 163, 0, 43, 42]
abbrev dktX2_bestAsks_0 : List UInt8 := dkwX2_bestAsks_0 ++ dktX2_bestAsks_1
theorem dksX2_bestAsks_0 : cX2_bestAsks.data.toList.drop 0 = dktX2_bestAsks_0 := by decide +kernel
theorem dksX2_bestAsks_1 : cX2_bestAsks.data.toList.drop 24 = dktX2_bestAsks_1 := dk_seg dksX2_bestAsks_0 24 rfl rfl
theorem dksX2_bestAsks_2 : cX2_bestAsks.data.toList.drop 48 = dktX2_bestAsks_2 := dk_seg dksX2_bestAsks_1 24 rfl rfl
theorem dX2_bestAsks_0 : decode cX2_bestAsks 0 = .ok (.aload_n 0, 1) := dk_42 (dk_at dksX2_bestAsks_0 0 rfl rfl)
theorem dX2_bestAsks_1 : decode cX2_bestAsks 1 = .ok (.iload_n 1, 1) := dk_27 (dk_at dksX2_bestAsks_0 1 rfl rfl)
theorem dX2_bestAsks_2 : decode cX2_bestAsks 2 = .ok (.invokevirtual 350, 3) := dk_182 1 94 (dk_at dksX2_bestAsks_0 2 rfl rfl)
theorem dX2_bestAsks_5 : decode cX2_bestAsks 5 = .ok (.ifCond .ne 5, 3) := dk_154 0 5 (dk_at dksX2_bestAsks_0 5 rfl rfl)
theorem dX2_bestAsks_8 : decode cX2_bestAsks 8 = .ok (.iconst 0, 1) := dk_3 (dk_at dksX2_bestAsks_0 8 rfl rfl)
theorem dX2_bestAsks_9 : decode cX2_bestAsks 9 = .ok (.ireturn, 1) := dk_172 (dk_at dksX2_bestAsks_0 9 rfl rfl)
theorem dX2_bestAsks_10 : decode cX2_bestAsks 10 = .ok (.iconst 0, 1) := dk_3 (dk_at dksX2_bestAsks_0 10 rfl rfl)
theorem dX2_bestAsks_11 : decode cX2_bestAsks 11 = .ok (.istore_n 2, 1) := dk_61 (dk_at dksX2_bestAsks_0 11 rfl rfl)
theorem dX2_bestAsks_12 : decode cX2_bestAsks 12 = .ok (.iconst (-1), 1) := dk_2 (dk_at dksX2_bestAsks_0 12 rfl rfl)
theorem dX2_bestAsks_13 : decode cX2_bestAsks 13 = .ok (.istore_n 3, 1) := dk_62 (dk_at dksX2_bestAsks_0 13 rfl rfl)
theorem dX2_bestAsks_14 : decode cX2_bestAsks 14 = .ok (.iconst 0, 1) := dk_3 (dk_at dksX2_bestAsks_0 14 rfl rfl)
theorem dX2_bestAsks_15 : decode cX2_bestAsks 15 = .ok (.istore 4, 2) := dk_54 4 (dk_at dksX2_bestAsks_0 15 rfl rfl)
theorem dX2_bestAsks_17 : decode cX2_bestAsks 17 = .ok (.iload 4, 2) := dk_21 4 (dk_at dksX2_bestAsks_0 17 rfl rfl)
theorem dX2_bestAsks_19 : decode cX2_bestAsks 19 = .ok (.iconst 5, 1) := dk_8 (dk_at dksX2_bestAsks_0 19 rfl rfl)
theorem dX2_bestAsks_20 : decode cX2_bestAsks 20 = .ok (.if_icmp .gt 43, 3) := dk_163 0 43 (dk_at dksX2_bestAsks_0 20 rfl rfl)
theorem dX2_bestAsks_23 : decode cX2_bestAsks 23 = .ok (.aload_n 0, 1) := dk_42 (dk_at dksX2_bestAsks_0 23 rfl rfl)
theorem dX2_bestAsks_24 : decode cX2_bestAsks 24 = .ok (.invokevirtual 220, 3) := dk_182 0 220 (dk_at dksX2_bestAsks_1 0 rfl rfl)
theorem dX2_bestAsks_27 : decode cX2_bestAsks 27 = .ok (.aload_n 0, 1) := dk_42 (dk_at dksX2_bestAsks_1 3 rfl rfl)
theorem dX2_bestAsks_28 : decode cX2_bestAsks 28 = .ok (.getfield 9, 3) := dk_180 0 9 (dk_at dksX2_bestAsks_1 4 rfl rfl)
theorem dX2_bestAsks_31 : decode cX2_bestAsks 31 = .ok (.iconst 1, 1) := dk_4 (dk_at dksX2_bestAsks_1 7 rfl rfl)
theorem dX2_bestAsks_32 : decode cX2_bestAsks 32 = .ok (.iload 4, 2) := dk_21 4 (dk_at dksX2_bestAsks_1 8 rfl rfl)
theorem dX2_bestAsks_34 : decode cX2_bestAsks 34 = .ok (.iastore, 1) := dk_79 (dk_at dksX2_bestAsks_1 10 rfl rfl)
theorem dX2_bestAsks_35 : decode cX2_bestAsks 35 = .ok (.aload_n 0, 1) := dk_42 (dk_at dksX2_bestAsks_1 11 rfl rfl)
theorem dX2_bestAsks_36 : decode cX2_bestAsks 36 = .ok (.iload_n 1, 1) := dk_27 (dk_at dksX2_bestAsks_1 12 rfl rfl)
theorem dX2_bestAsks_37 : decode cX2_bestAsks 37 = .ok (.invokevirtual 382, 3) := dk_182 1 126 (dk_at dksX2_bestAsks_1 13 rfl rfl)
theorem dX2_bestAsks_40 : decode cX2_bestAsks 40 = .ok (.istore 5, 2) := dk_54 5 (dk_at dksX2_bestAsks_1 16 rfl rfl)
theorem dX2_bestAsks_42 : decode cX2_bestAsks 42 = .ok (.iload 5, 2) := dk_21 5 (dk_at dksX2_bestAsks_1 18 rfl rfl)
theorem dX2_bestAsks_44 : decode cX2_bestAsks 44 = .ok (.iload_n 3, 1) := dk_29 (dk_at dksX2_bestAsks_1 20 rfl rfl)
theorem dX2_bestAsks_45 : decode cX2_bestAsks 45 = .ok (.if_icmp .gt 6, 3) := dk_163 0 6 (dk_at dksX2_bestAsks_1 21 rfl rfl)
theorem dX2_bestAsks_48 : decode cX2_bestAsks 48 = .ok (.goto 9, 3) := dk_167 0 9 (dk_at dksX2_bestAsks_2 0 rfl rfl)
theorem dX2_bestAsks_51 : decode cX2_bestAsks 51 = .ok (.iload 5, 2) := dk_21 5 (dk_at dksX2_bestAsks_2 3 rfl rfl)
theorem dX2_bestAsks_53 : decode cX2_bestAsks 53 = .ok (.istore_n 3, 1) := dk_62 (dk_at dksX2_bestAsks_2 5 rfl rfl)
theorem dX2_bestAsks_54 : decode cX2_bestAsks 54 = .ok (.iload 4, 2) := dk_21 4 (dk_at dksX2_bestAsks_2 6 rfl rfl)
theorem dX2_bestAsks_56 : decode cX2_bestAsks 56 = .ok (.istore_n 2, 1) := dk_61 (dk_at dksX2_bestAsks_2 8 rfl rfl)
theorem dX2_bestAsks_57 : decode cX2_bestAsks 57 = .ok (.iinc 4 1, 3) := dk_132 4 1 (dk_at dksX2_bestAsks_2 9 rfl rfl)
theorem dX2_bestAsks_60 : decode cX2_bestAsks 60 = .ok (.goto (-43), 3) := dk_167 255 213 (dk_at dksX2_bestAsks_2 12 rfl rfl)
theorem dX2_bestAsks_63 : decode cX2_bestAsks 63 = .ok (.iload_n 2, 1) := dk_28 (dk_at dksX2_bestAsks_2 15 rfl rfl)
theorem dX2_bestAsks_64 : decode cX2_bestAsks 64 = .ok (.ireturn, 1) := dk_172 (dk_at dksX2_bestAsks_2 16 rfl rfl)
abbrev cX2_copiesIn : ByteArray := prog_12_method_129_code
def yX2_copiesIn : MethodName := ⟨RX2, "copiesIn", "(II)I"⟩
def dkwX2_copiesIn_3 : List UInt8 := [172]
abbrev dktX2_copiesIn_3 : List UInt8 := dkwX2_copiesIn_3 ++ []
def dkwX2_copiesIn_2 : List UInt8 := [182, 0, 220, 42, 27, 182, 0, 192, 54, 4, 42, 42, 180, 0, 9, 8, 28, 96, 46, 29, 100, 182, 0, 226]
abbrev dktX2_copiesIn_2 : List UInt8 := dkwX2_copiesIn_2 ++ dktX2_copiesIn_3
def dkwX2_copiesIn_1 : List UInt8 := [4, 167, 0, 4, 3, 182, 1, 37, 154, 0, 5, 3, 172, 42, 180, 0, 9, 8, 28, 96, 46, 62, 42]
abbrev dktX2_copiesIn_1 : List UInt8 := dkwX2_copiesIn_1 ++ dktX2_copiesIn_2
def dkwX2_copiesIn_0 : List UInt8 := [42, 42, 180, 0, 56, 27, 3, 16, 50, 184, 0, 77, 153, 0, 16, 28, 3, 5, 184, 0, 77, 153, 0, 7]
abbrev dktX2_copiesIn_0 : List UInt8 := dkwX2_copiesIn_0 ++ dktX2_copiesIn_1
theorem dksX2_copiesIn_0 : cX2_copiesIn.data.toList.drop 0 = dktX2_copiesIn_0 := by decide +kernel
theorem dksX2_copiesIn_1 : cX2_copiesIn.data.toList.drop 24 = dktX2_copiesIn_1 := dk_seg dksX2_copiesIn_0 24 rfl rfl
theorem dksX2_copiesIn_2 : cX2_copiesIn.data.toList.drop 47 = dktX2_copiesIn_2 := dk_seg dksX2_copiesIn_1 23 rfl rfl
theorem dksX2_copiesIn_3 : cX2_copiesIn.data.toList.drop 71 = dktX2_copiesIn_3 := dk_seg dksX2_copiesIn_2 24 rfl rfl
theorem dX2_copiesIn_0 : decode cX2_copiesIn 0 = .ok (.aload_n 0, 1) := dk_42 (dk_at dksX2_copiesIn_0 0 rfl rfl)
theorem dX2_copiesIn_1 : decode cX2_copiesIn 1 = .ok (.aload_n 0, 1) := dk_42 (dk_at dksX2_copiesIn_0 1 rfl rfl)
theorem dX2_copiesIn_2 : decode cX2_copiesIn 2 = .ok (.getfield 56, 3) := dk_180 0 56 (dk_at dksX2_copiesIn_0 2 rfl rfl)
theorem dX2_copiesIn_5 : decode cX2_copiesIn 5 = .ok (.iload_n 1, 1) := dk_27 (dk_at dksX2_copiesIn_0 5 rfl rfl)
theorem dX2_copiesIn_6 : decode cX2_copiesIn 6 = .ok (.iconst 0, 1) := dk_3 (dk_at dksX2_copiesIn_0 6 rfl rfl)
theorem dX2_copiesIn_7 : decode cX2_copiesIn 7 = .ok (.bipush 50, 2) := dk_16 50 (dk_at dksX2_copiesIn_0 7 rfl rfl)
theorem dX2_copiesIn_9 : decode cX2_copiesIn 9 = .ok (.invokestatic 77, 3) := dk_184 0 77 (dk_at dksX2_copiesIn_0 9 rfl rfl)
theorem dX2_copiesIn_12 : decode cX2_copiesIn 12 = .ok (.ifCond .eq 16, 3) := dk_153 0 16 (dk_at dksX2_copiesIn_0 12 rfl rfl)
theorem dX2_copiesIn_15 : decode cX2_copiesIn 15 = .ok (.iload_n 2, 1) := dk_28 (dk_at dksX2_copiesIn_0 15 rfl rfl)
theorem dX2_copiesIn_16 : decode cX2_copiesIn 16 = .ok (.iconst 0, 1) := dk_3 (dk_at dksX2_copiesIn_0 16 rfl rfl)
theorem dX2_copiesIn_17 : decode cX2_copiesIn 17 = .ok (.iconst 2, 1) := dk_5 (dk_at dksX2_copiesIn_0 17 rfl rfl)
theorem dX2_copiesIn_18 : decode cX2_copiesIn 18 = .ok (.invokestatic 77, 3) := dk_184 0 77 (dk_at dksX2_copiesIn_0 18 rfl rfl)
theorem dX2_copiesIn_21 : decode cX2_copiesIn 21 = .ok (.ifCond .eq 7, 3) := dk_153 0 7 (dk_at dksX2_copiesIn_0 21 rfl rfl)
theorem dX2_copiesIn_24 : decode cX2_copiesIn 24 = .ok (.iconst 1, 1) := dk_4 (dk_at dksX2_copiesIn_1 0 rfl rfl)
theorem dX2_copiesIn_25 : decode cX2_copiesIn 25 = .ok (.goto 4, 3) := dk_167 0 4 (dk_at dksX2_copiesIn_1 1 rfl rfl)
theorem dX2_copiesIn_28 : decode cX2_copiesIn 28 = .ok (.iconst 0, 1) := dk_3 (dk_at dksX2_copiesIn_1 4 rfl rfl)
theorem dX2_copiesIn_29 : decode cX2_copiesIn 29 = .ok (.invokevirtual 293, 3) := dk_182 1 37 (dk_at dksX2_copiesIn_1 5 rfl rfl)
theorem dX2_copiesIn_32 : decode cX2_copiesIn 32 = .ok (.ifCond .ne 5, 3) := dk_154 0 5 (dk_at dksX2_copiesIn_1 8 rfl rfl)
theorem dX2_copiesIn_35 : decode cX2_copiesIn 35 = .ok (.iconst 0, 1) := dk_3 (dk_at dksX2_copiesIn_1 11 rfl rfl)
theorem dX2_copiesIn_36 : decode cX2_copiesIn 36 = .ok (.ireturn, 1) := dk_172 (dk_at dksX2_copiesIn_1 12 rfl rfl)
theorem dX2_copiesIn_37 : decode cX2_copiesIn 37 = .ok (.aload_n 0, 1) := dk_42 (dk_at dksX2_copiesIn_1 13 rfl rfl)
theorem dX2_copiesIn_38 : decode cX2_copiesIn 38 = .ok (.getfield 9, 3) := dk_180 0 9 (dk_at dksX2_copiesIn_1 14 rfl rfl)
theorem dX2_copiesIn_41 : decode cX2_copiesIn 41 = .ok (.iconst 5, 1) := dk_8 (dk_at dksX2_copiesIn_1 17 rfl rfl)
theorem dX2_copiesIn_42 : decode cX2_copiesIn 42 = .ok (.iload_n 2, 1) := dk_28 (dk_at dksX2_copiesIn_1 18 rfl rfl)
theorem dX2_copiesIn_43 : decode cX2_copiesIn 43 = .ok (.iadd, 1) := dk_96 (dk_at dksX2_copiesIn_1 19 rfl rfl)
theorem dX2_copiesIn_44 : decode cX2_copiesIn 44 = .ok (.iaload, 1) := dk_46 (dk_at dksX2_copiesIn_1 20 rfl rfl)
theorem dX2_copiesIn_45 : decode cX2_copiesIn 45 = .ok (.istore_n 3, 1) := dk_62 (dk_at dksX2_copiesIn_1 21 rfl rfl)
theorem dX2_copiesIn_46 : decode cX2_copiesIn 46 = .ok (.aload_n 0, 1) := dk_42 (dk_at dksX2_copiesIn_1 22 rfl rfl)
theorem dX2_copiesIn_47 : decode cX2_copiesIn 47 = .ok (.invokevirtual 220, 3) := dk_182 0 220 (dk_at dksX2_copiesIn_2 0 rfl rfl)
theorem dX2_copiesIn_50 : decode cX2_copiesIn 50 = .ok (.aload_n 0, 1) := dk_42 (dk_at dksX2_copiesIn_2 3 rfl rfl)
theorem dX2_copiesIn_51 : decode cX2_copiesIn 51 = .ok (.iload_n 1, 1) := dk_27 (dk_at dksX2_copiesIn_2 4 rfl rfl)
theorem dX2_copiesIn_52 : decode cX2_copiesIn 52 = .ok (.invokevirtual 192, 3) := dk_182 0 192 (dk_at dksX2_copiesIn_2 5 rfl rfl)
theorem dX2_copiesIn_55 : decode cX2_copiesIn 55 = .ok (.istore 4, 2) := dk_54 4 (dk_at dksX2_copiesIn_2 8 rfl rfl)
theorem dX2_copiesIn_57 : decode cX2_copiesIn 57 = .ok (.aload_n 0, 1) := dk_42 (dk_at dksX2_copiesIn_2 10 rfl rfl)
theorem dX2_copiesIn_58 : decode cX2_copiesIn 58 = .ok (.aload_n 0, 1) := dk_42 (dk_at dksX2_copiesIn_2 11 rfl rfl)
theorem dX2_copiesIn_59 : decode cX2_copiesIn 59 = .ok (.getfield 9, 3) := dk_180 0 9 (dk_at dksX2_copiesIn_2 12 rfl rfl)
theorem dX2_copiesIn_62 : decode cX2_copiesIn 62 = .ok (.iconst 5, 1) := dk_8 (dk_at dksX2_copiesIn_2 15 rfl rfl)
theorem dX2_copiesIn_63 : decode cX2_copiesIn 63 = .ok (.iload_n 2, 1) := dk_28 (dk_at dksX2_copiesIn_2 16 rfl rfl)
theorem dX2_copiesIn_64 : decode cX2_copiesIn 64 = .ok (.iadd, 1) := dk_96 (dk_at dksX2_copiesIn_2 17 rfl rfl)
theorem dX2_copiesIn_65 : decode cX2_copiesIn 65 = .ok (.iaload, 1) := dk_46 (dk_at dksX2_copiesIn_2 18 rfl rfl)
theorem dX2_copiesIn_66 : decode cX2_copiesIn 66 = .ok (.iload_n 3, 1) := dk_29 (dk_at dksX2_copiesIn_2 19 rfl rfl)
theorem dX2_copiesIn_67 : decode cX2_copiesIn 67 = .ok (.isub, 1) := dk_100 (dk_at dksX2_copiesIn_2 20 rfl rfl)
theorem dX2_copiesIn_68 : decode cX2_copiesIn 68 = .ok (.invokevirtual 226, 3) := dk_182 0 226 (dk_at dksX2_copiesIn_2 21 rfl rfl)
theorem dX2_copiesIn_71 : decode cX2_copiesIn 71 = .ok (.ireturn, 1) := dk_172 (dk_at dksX2_copiesIn_3 0 rfl rfl)
abbrev cX2_bestCut : ByteArray := prog_12_method_131_code
def yX2_bestCut : MethodName := ⟨RX2, "bestCut", "(I)I"⟩
def dkwX2_bestCut_2 : List UInt8 := [163, 0, 6, 167, 0, 9, 21, 5, 62, 21, 4, 61, 132, 4, 1, 167, 255, 217, 28, 172]
abbrev dktX2_bestCut_2 : List UInt8 := dkwX2_bestCut_2 ++ []
def dkwX2_bestCut_1 : List UInt8 := [16, 9, 42, 182, 1, 17, 104, 162, 0, 33, 42, 27, 21, 4, 182, 1, 145, 54, 5, 21, 5, 29]
abbrev dktX2_bestCut_1 : List UInt8 := dkwX2_bestCut_1 ++ dktX2_bestCut_2
def dkwX2_bestCut_0 : List UInt8 := [42, 27, 182, 1, 94, 154, 0, 5, 3, 172, 3, 61, 42, 27, 3, 182, 1, 145, 62, 4, 54, 4, 21, 4]
abbrev dktX2_bestCut_0 : List UInt8 := dkwX2_bestCut_0 ++ dktX2_bestCut_1
theorem dksX2_bestCut_0 : cX2_bestCut.data.toList.drop 0 = dktX2_bestCut_0 := by decide +kernel
theorem dksX2_bestCut_1 : cX2_bestCut.data.toList.drop 24 = dktX2_bestCut_1 := dk_seg dksX2_bestCut_0 24 rfl rfl
theorem dksX2_bestCut_2 : cX2_bestCut.data.toList.drop 46 = dktX2_bestCut_2 := dk_seg dksX2_bestCut_1 22 rfl rfl
theorem dX2_bestCut_0 : decode cX2_bestCut 0 = .ok (.aload_n 0, 1) := dk_42 (dk_at dksX2_bestCut_0 0 rfl rfl)
theorem dX2_bestCut_1 : decode cX2_bestCut 1 = .ok (.iload_n 1, 1) := dk_27 (dk_at dksX2_bestCut_0 1 rfl rfl)
theorem dX2_bestCut_2 : decode cX2_bestCut 2 = .ok (.invokevirtual 350, 3) := dk_182 1 94 (dk_at dksX2_bestCut_0 2 rfl rfl)
theorem dX2_bestCut_5 : decode cX2_bestCut 5 = .ok (.ifCond .ne 5, 3) := dk_154 0 5 (dk_at dksX2_bestCut_0 5 rfl rfl)
theorem dX2_bestCut_8 : decode cX2_bestCut 8 = .ok (.iconst 0, 1) := dk_3 (dk_at dksX2_bestCut_0 8 rfl rfl)
theorem dX2_bestCut_9 : decode cX2_bestCut 9 = .ok (.ireturn, 1) := dk_172 (dk_at dksX2_bestCut_0 9 rfl rfl)
theorem dX2_bestCut_10 : decode cX2_bestCut 10 = .ok (.iconst 0, 1) := dk_3 (dk_at dksX2_bestCut_0 10 rfl rfl)
theorem dX2_bestCut_11 : decode cX2_bestCut 11 = .ok (.istore_n 2, 1) := dk_61 (dk_at dksX2_bestCut_0 11 rfl rfl)
theorem dX2_bestCut_12 : decode cX2_bestCut 12 = .ok (.aload_n 0, 1) := dk_42 (dk_at dksX2_bestCut_0 12 rfl rfl)
theorem dX2_bestCut_13 : decode cX2_bestCut 13 = .ok (.iload_n 1, 1) := dk_27 (dk_at dksX2_bestCut_0 13 rfl rfl)
theorem dX2_bestCut_14 : decode cX2_bestCut 14 = .ok (.iconst 0, 1) := dk_3 (dk_at dksX2_bestCut_0 14 rfl rfl)
theorem dX2_bestCut_15 : decode cX2_bestCut 15 = .ok (.invokevirtual 401, 3) := dk_182 1 145 (dk_at dksX2_bestCut_0 15 rfl rfl)
theorem dX2_bestCut_18 : decode cX2_bestCut 18 = .ok (.istore_n 3, 1) := dk_62 (dk_at dksX2_bestCut_0 18 rfl rfl)
theorem dX2_bestCut_19 : decode cX2_bestCut 19 = .ok (.iconst 1, 1) := dk_4 (dk_at dksX2_bestCut_0 19 rfl rfl)
theorem dX2_bestCut_20 : decode cX2_bestCut 20 = .ok (.istore 4, 2) := dk_54 4 (dk_at dksX2_bestCut_0 20 rfl rfl)
theorem dX2_bestCut_22 : decode cX2_bestCut 22 = .ok (.iload 4, 2) := dk_21 4 (dk_at dksX2_bestCut_0 22 rfl rfl)
theorem dX2_bestCut_24 : decode cX2_bestCut 24 = .ok (.bipush 9, 2) := dk_16 9 (dk_at dksX2_bestCut_1 0 rfl rfl)
theorem dX2_bestCut_26 : decode cX2_bestCut 26 = .ok (.aload_n 0, 1) := dk_42 (dk_at dksX2_bestCut_1 2 rfl rfl)
theorem dX2_bestCut_27 : decode cX2_bestCut 27 = .ok (.invokevirtual 273, 3) := dk_182 1 17 (dk_at dksX2_bestCut_1 3 rfl rfl)
theorem dX2_bestCut_30 : decode cX2_bestCut 30 = .ok (.imul, 1) := dk_104 (dk_at dksX2_bestCut_1 6 rfl rfl)
theorem dX2_bestCut_31 : decode cX2_bestCut 31 = .ok (.if_icmp .ge 33, 3) := dk_162 0 33 (dk_at dksX2_bestCut_1 7 rfl rfl)
theorem dX2_bestCut_34 : decode cX2_bestCut 34 = .ok (.aload_n 0, 1) := dk_42 (dk_at dksX2_bestCut_1 10 rfl rfl)
theorem dX2_bestCut_35 : decode cX2_bestCut 35 = .ok (.iload_n 1, 1) := dk_27 (dk_at dksX2_bestCut_1 11 rfl rfl)
theorem dX2_bestCut_36 : decode cX2_bestCut 36 = .ok (.iload 4, 2) := dk_21 4 (dk_at dksX2_bestCut_1 12 rfl rfl)
theorem dX2_bestCut_38 : decode cX2_bestCut 38 = .ok (.invokevirtual 401, 3) := dk_182 1 145 (dk_at dksX2_bestCut_1 14 rfl rfl)
theorem dX2_bestCut_41 : decode cX2_bestCut 41 = .ok (.istore 5, 2) := dk_54 5 (dk_at dksX2_bestCut_1 17 rfl rfl)
theorem dX2_bestCut_43 : decode cX2_bestCut 43 = .ok (.iload 5, 2) := dk_21 5 (dk_at dksX2_bestCut_1 19 rfl rfl)
theorem dX2_bestCut_45 : decode cX2_bestCut 45 = .ok (.iload_n 3, 1) := dk_29 (dk_at dksX2_bestCut_1 21 rfl rfl)
theorem dX2_bestCut_46 : decode cX2_bestCut 46 = .ok (.if_icmp .gt 6, 3) := dk_163 0 6 (dk_at dksX2_bestCut_2 0 rfl rfl)
theorem dX2_bestCut_49 : decode cX2_bestCut 49 = .ok (.goto 9, 3) := dk_167 0 9 (dk_at dksX2_bestCut_2 3 rfl rfl)
theorem dX2_bestCut_52 : decode cX2_bestCut 52 = .ok (.iload 5, 2) := dk_21 5 (dk_at dksX2_bestCut_2 6 rfl rfl)
theorem dX2_bestCut_54 : decode cX2_bestCut 54 = .ok (.istore_n 3, 1) := dk_62 (dk_at dksX2_bestCut_2 8 rfl rfl)
theorem dX2_bestCut_55 : decode cX2_bestCut 55 = .ok (.iload 4, 2) := dk_21 4 (dk_at dksX2_bestCut_2 9 rfl rfl)
theorem dX2_bestCut_57 : decode cX2_bestCut 57 = .ok (.istore_n 2, 1) := dk_61 (dk_at dksX2_bestCut_2 11 rfl rfl)
theorem dX2_bestCut_58 : decode cX2_bestCut 58 = .ok (.iinc 4 1, 3) := dk_132 4 1 (dk_at dksX2_bestCut_2 12 rfl rfl)
theorem dX2_bestCut_61 : decode cX2_bestCut 61 = .ok (.goto (-39), 3) := dk_167 255 217 (dk_at dksX2_bestCut_2 15 rfl rfl)
theorem dX2_bestCut_64 : decode cX2_bestCut 64 = .ok (.iload_n 2, 1) := dk_28 (dk_at dksX2_bestCut_2 18 rfl rfl)
theorem dX2_bestCut_65 : decode cX2_bestCut 65 = .ok (.ireturn, 1) := dk_172 (dk_at dksX2_bestCut_2 19 rfl rfl)
abbrev cX2_rightCut : ByteArray := prog_12_method_130_code
def yX2_rightCut : MethodName := ⟨RX2, "rightCut", "(II)I"⟩
def dkwX2_rightCut_0 : List UInt8 := [42, 182, 0, 220, 42, 28, 5, 4, 182, 0, 137, 42, 27, 182, 1, 126, 172]
abbrev dktX2_rightCut_0 : List UInt8 := dkwX2_rightCut_0 ++ []
theorem dksX2_rightCut_0 : cX2_rightCut.data.toList.drop 0 = dktX2_rightCut_0 := by decide +kernel
theorem dX2_rightCut_0 : decode cX2_rightCut 0 = .ok (.aload_n 0, 1) := dk_42 (dk_at dksX2_rightCut_0 0 rfl rfl)
theorem dX2_rightCut_1 : decode cX2_rightCut 1 = .ok (.invokevirtual 220, 3) := dk_182 0 220 (dk_at dksX2_rightCut_0 1 rfl rfl)
theorem dX2_rightCut_4 : decode cX2_rightCut 4 = .ok (.aload_n 0, 1) := dk_42 (dk_at dksX2_rightCut_0 4 rfl rfl)
theorem dX2_rightCut_5 : decode cX2_rightCut 5 = .ok (.iload_n 2, 1) := dk_28 (dk_at dksX2_rightCut_0 5 rfl rfl)
theorem dX2_rightCut_6 : decode cX2_rightCut 6 = .ok (.iconst 2, 1) := dk_5 (dk_at dksX2_rightCut_0 6 rfl rfl)
theorem dX2_rightCut_7 : decode cX2_rightCut 7 = .ok (.iconst 1, 1) := dk_4 (dk_at dksX2_rightCut_0 7 rfl rfl)
theorem dX2_rightCut_8 : decode cX2_rightCut 8 = .ok (.invokevirtual 137, 3) := dk_182 0 137 (dk_at dksX2_rightCut_0 8 rfl rfl)
theorem dX2_rightCut_11 : decode cX2_rightCut 11 = .ok (.aload_n 0, 1) := dk_42 (dk_at dksX2_rightCut_0 11 rfl rfl)
theorem dX2_rightCut_12 : decode cX2_rightCut 12 = .ok (.iload_n 1, 1) := dk_27 (dk_at dksX2_rightCut_0 12 rfl rfl)
theorem dX2_rightCut_13 : decode cX2_rightCut 13 = .ok (.invokevirtual 382, 3) := dk_182 1 126 (dk_at dksX2_rightCut_0 13 rfl rfl)
theorem dX2_rightCut_16 : decode cX2_rightCut 16 = .ok (.ireturn, 1) := dk_172 (dk_at dksX2_rightCut_0 16 rfl rfl)
abbrev cX2_bestStart : ByteArray := prog_12_method_133_code
def yX2_bestStart : MethodName := ⟨RX2, "bestStart", "(III)I"⟩
def dkwX2_bestStart_4 : List UInt8 := [172]
abbrev dktX2_bestStart_4 : List UInt8 := dkwX2_bestStart_4 ++ []
def dkwX2_bestStart_3 : List UInt8 := [21, 5, 163, 0, 6, 167, 0, 11, 21, 7, 54, 5, 21, 6, 54, 4, 132, 6, 1, 167, 255, 219, 21, 4]
abbrev dktX2_bestStart_3 : List UInt8 := dkwX2_bestStart_3 ++ dktX2_bestStart_4
def dkwX2_bestStart_2 : List UInt8 := [2, 54, 5, 3, 54, 6, 21, 6, 29, 162, 0, 37, 42, 27, 28, 21, 6, 182, 1, 148, 54, 7, 21, 7]
abbrev dktX2_bestStart_2 : List UInt8 := dkwX2_bestStart_2 ++ dktX2_bestStart_3
def dkwX2_bestStart_1 : List UInt8 := [16, 20, 184, 0, 77, 153, 0, 7, 4, 167, 0, 4, 3, 182, 1, 37, 154, 0, 5, 3, 172, 3, 54, 4]
abbrev dktX2_bestStart_1 : List UInt8 := dkwX2_bestStart_1 ++ dktX2_bestStart_2
def dkwX2_bestStart_0 : List UInt8 := [42, 42, 180, 0, 56, 27, 184, 1, 53, 153, 0, 27, 28, 4, 16, 12, 184, 0, 77, 153, 0, 17, 29, 4]
abbrev dktX2_bestStart_0 : List UInt8 := dkwX2_bestStart_0 ++ dktX2_bestStart_1
theorem dksX2_bestStart_0 : cX2_bestStart.data.toList.drop 0 = dktX2_bestStart_0 := by decide +kernel
theorem dksX2_bestStart_1 : cX2_bestStart.data.toList.drop 24 = dktX2_bestStart_1 := dk_seg dksX2_bestStart_0 24 rfl rfl
theorem dksX2_bestStart_2 : cX2_bestStart.data.toList.drop 48 = dktX2_bestStart_2 := dk_seg dksX2_bestStart_1 24 rfl rfl
theorem dksX2_bestStart_3 : cX2_bestStart.data.toList.drop 72 = dktX2_bestStart_3 := dk_seg dksX2_bestStart_2 24 rfl rfl
theorem dksX2_bestStart_4 : cX2_bestStart.data.toList.drop 96 = dktX2_bestStart_4 := dk_seg dksX2_bestStart_3 24 rfl rfl
theorem dX2_bestStart_0 : decode cX2_bestStart 0 = .ok (.aload_n 0, 1) := dk_42 (dk_at dksX2_bestStart_0 0 rfl rfl)
theorem dX2_bestStart_1 : decode cX2_bestStart 1 = .ok (.aload_n 0, 1) := dk_42 (dk_at dksX2_bestStart_0 1 rfl rfl)
theorem dX2_bestStart_2 : decode cX2_bestStart 2 = .ok (.getfield 56, 3) := dk_180 0 56 (dk_at dksX2_bestStart_0 2 rfl rfl)
theorem dX2_bestStart_5 : decode cX2_bestStart 5 = .ok (.iload_n 1, 1) := dk_27 (dk_at dksX2_bestStart_0 5 rfl rfl)
theorem dX2_bestStart_6 : decode cX2_bestStart 6 = .ok (.invokestatic 309, 3) := dk_184 1 53 (dk_at dksX2_bestStart_0 6 rfl rfl)
theorem dX2_bestStart_9 : decode cX2_bestStart 9 = .ok (.ifCond .eq 27, 3) := dk_153 0 27 (dk_at dksX2_bestStart_0 9 rfl rfl)
theorem dX2_bestStart_12 : decode cX2_bestStart 12 = .ok (.iload_n 2, 1) := dk_28 (dk_at dksX2_bestStart_0 12 rfl rfl)
theorem dX2_bestStart_13 : decode cX2_bestStart 13 = .ok (.iconst 1, 1) := dk_4 (dk_at dksX2_bestStart_0 13 rfl rfl)
theorem dX2_bestStart_14 : decode cX2_bestStart 14 = .ok (.bipush 12, 2) := dk_16 12 (dk_at dksX2_bestStart_0 14 rfl rfl)
theorem dX2_bestStart_16 : decode cX2_bestStart 16 = .ok (.invokestatic 77, 3) := dk_184 0 77 (dk_at dksX2_bestStart_0 16 rfl rfl)
theorem dX2_bestStart_19 : decode cX2_bestStart 19 = .ok (.ifCond .eq 17, 3) := dk_153 0 17 (dk_at dksX2_bestStart_0 19 rfl rfl)
theorem dX2_bestStart_22 : decode cX2_bestStart 22 = .ok (.iload_n 3, 1) := dk_29 (dk_at dksX2_bestStart_0 22 rfl rfl)
theorem dX2_bestStart_23 : decode cX2_bestStart 23 = .ok (.iconst 1, 1) := dk_4 (dk_at dksX2_bestStart_0 23 rfl rfl)
theorem dX2_bestStart_24 : decode cX2_bestStart 24 = .ok (.bipush 20, 2) := dk_16 20 (dk_at dksX2_bestStart_1 0 rfl rfl)
theorem dX2_bestStart_26 : decode cX2_bestStart 26 = .ok (.invokestatic 77, 3) := dk_184 0 77 (dk_at dksX2_bestStart_1 2 rfl rfl)
theorem dX2_bestStart_29 : decode cX2_bestStart 29 = .ok (.ifCond .eq 7, 3) := dk_153 0 7 (dk_at dksX2_bestStart_1 5 rfl rfl)
theorem dX2_bestStart_32 : decode cX2_bestStart 32 = .ok (.iconst 1, 1) := dk_4 (dk_at dksX2_bestStart_1 8 rfl rfl)
theorem dX2_bestStart_33 : decode cX2_bestStart 33 = .ok (.goto 4, 3) := dk_167 0 4 (dk_at dksX2_bestStart_1 9 rfl rfl)
theorem dX2_bestStart_36 : decode cX2_bestStart 36 = .ok (.iconst 0, 1) := dk_3 (dk_at dksX2_bestStart_1 12 rfl rfl)
theorem dX2_bestStart_37 : decode cX2_bestStart 37 = .ok (.invokevirtual 293, 3) := dk_182 1 37 (dk_at dksX2_bestStart_1 13 rfl rfl)
theorem dX2_bestStart_40 : decode cX2_bestStart 40 = .ok (.ifCond .ne 5, 3) := dk_154 0 5 (dk_at dksX2_bestStart_1 16 rfl rfl)
theorem dX2_bestStart_43 : decode cX2_bestStart 43 = .ok (.iconst 0, 1) := dk_3 (dk_at dksX2_bestStart_1 19 rfl rfl)
theorem dX2_bestStart_44 : decode cX2_bestStart 44 = .ok (.ireturn, 1) := dk_172 (dk_at dksX2_bestStart_1 20 rfl rfl)
theorem dX2_bestStart_45 : decode cX2_bestStart 45 = .ok (.iconst 0, 1) := dk_3 (dk_at dksX2_bestStart_1 21 rfl rfl)
theorem dX2_bestStart_46 : decode cX2_bestStart 46 = .ok (.istore 4, 2) := dk_54 4 (dk_at dksX2_bestStart_1 22 rfl rfl)
theorem dX2_bestStart_48 : decode cX2_bestStart 48 = .ok (.iconst (-1), 1) := dk_2 (dk_at dksX2_bestStart_2 0 rfl rfl)
theorem dX2_bestStart_49 : decode cX2_bestStart 49 = .ok (.istore 5, 2) := dk_54 5 (dk_at dksX2_bestStart_2 1 rfl rfl)
theorem dX2_bestStart_51 : decode cX2_bestStart 51 = .ok (.iconst 0, 1) := dk_3 (dk_at dksX2_bestStart_2 3 rfl rfl)
theorem dX2_bestStart_52 : decode cX2_bestStart 52 = .ok (.istore 6, 2) := dk_54 6 (dk_at dksX2_bestStart_2 4 rfl rfl)
theorem dX2_bestStart_54 : decode cX2_bestStart 54 = .ok (.iload 6, 2) := dk_21 6 (dk_at dksX2_bestStart_2 6 rfl rfl)
theorem dX2_bestStart_56 : decode cX2_bestStart 56 = .ok (.iload_n 3, 1) := dk_29 (dk_at dksX2_bestStart_2 8 rfl rfl)
theorem dX2_bestStart_57 : decode cX2_bestStart 57 = .ok (.if_icmp .ge 37, 3) := dk_162 0 37 (dk_at dksX2_bestStart_2 9 rfl rfl)
theorem dX2_bestStart_60 : decode cX2_bestStart 60 = .ok (.aload_n 0, 1) := dk_42 (dk_at dksX2_bestStart_2 12 rfl rfl)
theorem dX2_bestStart_61 : decode cX2_bestStart 61 = .ok (.iload_n 1, 1) := dk_27 (dk_at dksX2_bestStart_2 13 rfl rfl)
theorem dX2_bestStart_62 : decode cX2_bestStart 62 = .ok (.iload_n 2, 1) := dk_28 (dk_at dksX2_bestStart_2 14 rfl rfl)
theorem dX2_bestStart_63 : decode cX2_bestStart 63 = .ok (.iload 6, 2) := dk_21 6 (dk_at dksX2_bestStart_2 15 rfl rfl)
theorem dX2_bestStart_65 : decode cX2_bestStart 65 = .ok (.invokevirtual 404, 3) := dk_182 1 148 (dk_at dksX2_bestStart_2 17 rfl rfl)
theorem dX2_bestStart_68 : decode cX2_bestStart 68 = .ok (.istore 7, 2) := dk_54 7 (dk_at dksX2_bestStart_2 20 rfl rfl)
theorem dX2_bestStart_70 : decode cX2_bestStart 70 = .ok (.iload 7, 2) := dk_21 7 (dk_at dksX2_bestStart_2 22 rfl rfl)
theorem dX2_bestStart_72 : decode cX2_bestStart 72 = .ok (.iload 5, 2) := dk_21 5 (dk_at dksX2_bestStart_3 0 rfl rfl)
theorem dX2_bestStart_74 : decode cX2_bestStart 74 = .ok (.if_icmp .gt 6, 3) := dk_163 0 6 (dk_at dksX2_bestStart_3 2 rfl rfl)
theorem dX2_bestStart_77 : decode cX2_bestStart 77 = .ok (.goto 11, 3) := dk_167 0 11 (dk_at dksX2_bestStart_3 5 rfl rfl)
theorem dX2_bestStart_80 : decode cX2_bestStart 80 = .ok (.iload 7, 2) := dk_21 7 (dk_at dksX2_bestStart_3 8 rfl rfl)
theorem dX2_bestStart_82 : decode cX2_bestStart 82 = .ok (.istore 5, 2) := dk_54 5 (dk_at dksX2_bestStart_3 10 rfl rfl)
theorem dX2_bestStart_84 : decode cX2_bestStart 84 = .ok (.iload 6, 2) := dk_21 6 (dk_at dksX2_bestStart_3 12 rfl rfl)
theorem dX2_bestStart_86 : decode cX2_bestStart 86 = .ok (.istore 4, 2) := dk_54 4 (dk_at dksX2_bestStart_3 14 rfl rfl)
theorem dX2_bestStart_88 : decode cX2_bestStart 88 = .ok (.iinc 6 1, 3) := dk_132 6 1 (dk_at dksX2_bestStart_3 16 rfl rfl)
theorem dX2_bestStart_91 : decode cX2_bestStart 91 = .ok (.goto (-37), 3) := dk_167 255 219 (dk_at dksX2_bestStart_3 19 rfl rfl)
theorem dX2_bestStart_94 : decode cX2_bestStart 94 = .ok (.iload 4, 2) := dk_21 4 (dk_at dksX2_bestStart_3 22 rfl rfl)
theorem dX2_bestStart_96 : decode cX2_bestStart 96 = .ok (.ireturn, 1) := dk_172 (dk_at dksX2_bestStart_4 0 rfl rfl)
abbrev cX2_rightBehind : ByteArray := prog_12_method_132_code
def yX2_rightBehind : MethodName := ⟨RX2, "rightBehind", "(III)I"⟩
def dkwX2_rightBehind_2 : List UInt8 := [132, 5, 1, 167, 255, 238, 42, 21, 4, 182, 1, 126, 172]
abbrev dktX2_rightBehind_2 : List UInt8 := dkwX2_rightBehind_2 ++ []
def dkwX2_rightBehind_1 : List UInt8 := [182, 0, 181, 54, 4, 3, 54, 5, 21, 5, 28, 162, 0, 18, 42, 21, 4, 21, 5, 27, 182, 0, 185]
abbrev dktX2_rightBehind_1 : List UInt8 := dkwX2_rightBehind_1 ++ dktX2_rightBehind_2
def dkwX2_rightBehind_0 : List UInt8 := [42, 182, 0, 220, 42, 180, 0, 9, 6, 3, 79, 42, 180, 0, 9, 5, 92, 46, 29, 96, 79, 42, 28]
abbrev dktX2_rightBehind_0 : List UInt8 := dkwX2_rightBehind_0 ++ dktX2_rightBehind_1
theorem dksX2_rightBehind_0 : cX2_rightBehind.data.toList.drop 0 = dktX2_rightBehind_0 := by decide +kernel
theorem dksX2_rightBehind_1 : cX2_rightBehind.data.toList.drop 23 = dktX2_rightBehind_1 := dk_seg dksX2_rightBehind_0 23 rfl rfl
theorem dksX2_rightBehind_2 : cX2_rightBehind.data.toList.drop 46 = dktX2_rightBehind_2 := dk_seg dksX2_rightBehind_1 23 rfl rfl
theorem dX2_rightBehind_0 : decode cX2_rightBehind 0 = .ok (.aload_n 0, 1) := dk_42 (dk_at dksX2_rightBehind_0 0 rfl rfl)
theorem dX2_rightBehind_1 : decode cX2_rightBehind 1 = .ok (.invokevirtual 220, 3) := dk_182 0 220 (dk_at dksX2_rightBehind_0 1 rfl rfl)
theorem dX2_rightBehind_4 : decode cX2_rightBehind 4 = .ok (.aload_n 0, 1) := dk_42 (dk_at dksX2_rightBehind_0 4 rfl rfl)
theorem dX2_rightBehind_5 : decode cX2_rightBehind 5 = .ok (.getfield 9, 3) := dk_180 0 9 (dk_at dksX2_rightBehind_0 5 rfl rfl)
theorem dX2_rightBehind_8 : decode cX2_rightBehind 8 = .ok (.iconst 3, 1) := dk_6 (dk_at dksX2_rightBehind_0 8 rfl rfl)
theorem dX2_rightBehind_9 : decode cX2_rightBehind 9 = .ok (.iconst 0, 1) := dk_3 (dk_at dksX2_rightBehind_0 9 rfl rfl)
theorem dX2_rightBehind_10 : decode cX2_rightBehind 10 = .ok (.iastore, 1) := dk_79 (dk_at dksX2_rightBehind_0 10 rfl rfl)
theorem dX2_rightBehind_11 : decode cX2_rightBehind 11 = .ok (.aload_n 0, 1) := dk_42 (dk_at dksX2_rightBehind_0 11 rfl rfl)
theorem dX2_rightBehind_12 : decode cX2_rightBehind 12 = .ok (.getfield 9, 3) := dk_180 0 9 (dk_at dksX2_rightBehind_0 12 rfl rfl)
theorem dX2_rightBehind_15 : decode cX2_rightBehind 15 = .ok (.iconst 2, 1) := dk_5 (dk_at dksX2_rightBehind_0 15 rfl rfl)
theorem dX2_rightBehind_16 : decode cX2_rightBehind 16 = .ok (.dup2, 1) := dk_92 (dk_at dksX2_rightBehind_0 16 rfl rfl)
theorem dX2_rightBehind_17 : decode cX2_rightBehind 17 = .ok (.iaload, 1) := dk_46 (dk_at dksX2_rightBehind_0 17 rfl rfl)
theorem dX2_rightBehind_18 : decode cX2_rightBehind 18 = .ok (.iload_n 3, 1) := dk_29 (dk_at dksX2_rightBehind_0 18 rfl rfl)
theorem dX2_rightBehind_19 : decode cX2_rightBehind 19 = .ok (.iadd, 1) := dk_96 (dk_at dksX2_rightBehind_0 19 rfl rfl)
theorem dX2_rightBehind_20 : decode cX2_rightBehind 20 = .ok (.iastore, 1) := dk_79 (dk_at dksX2_rightBehind_0 20 rfl rfl)
theorem dX2_rightBehind_21 : decode cX2_rightBehind 21 = .ok (.aload_n 0, 1) := dk_42 (dk_at dksX2_rightBehind_0 21 rfl rfl)
theorem dX2_rightBehind_22 : decode cX2_rightBehind 22 = .ok (.iload_n 2, 1) := dk_28 (dk_at dksX2_rightBehind_0 22 rfl rfl)
theorem dX2_rightBehind_23 : decode cX2_rightBehind 23 = .ok (.invokevirtual 181, 3) := dk_182 0 181 (dk_at dksX2_rightBehind_1 0 rfl rfl)
theorem dX2_rightBehind_26 : decode cX2_rightBehind 26 = .ok (.istore 4, 2) := dk_54 4 (dk_at dksX2_rightBehind_1 3 rfl rfl)
theorem dX2_rightBehind_28 : decode cX2_rightBehind 28 = .ok (.iconst 0, 1) := dk_3 (dk_at dksX2_rightBehind_1 5 rfl rfl)
theorem dX2_rightBehind_29 : decode cX2_rightBehind 29 = .ok (.istore 5, 2) := dk_54 5 (dk_at dksX2_rightBehind_1 6 rfl rfl)
theorem dX2_rightBehind_31 : decode cX2_rightBehind 31 = .ok (.iload 5, 2) := dk_21 5 (dk_at dksX2_rightBehind_1 8 rfl rfl)
theorem dX2_rightBehind_33 : decode cX2_rightBehind 33 = .ok (.iload_n 2, 1) := dk_28 (dk_at dksX2_rightBehind_1 10 rfl rfl)
theorem dX2_rightBehind_34 : decode cX2_rightBehind 34 = .ok (.if_icmp .ge 18, 3) := dk_162 0 18 (dk_at dksX2_rightBehind_1 11 rfl rfl)
theorem dX2_rightBehind_37 : decode cX2_rightBehind 37 = .ok (.aload_n 0, 1) := dk_42 (dk_at dksX2_rightBehind_1 14 rfl rfl)
theorem dX2_rightBehind_38 : decode cX2_rightBehind 38 = .ok (.iload 4, 2) := dk_21 4 (dk_at dksX2_rightBehind_1 15 rfl rfl)
theorem dX2_rightBehind_40 : decode cX2_rightBehind 40 = .ok (.iload 5, 2) := dk_21 5 (dk_at dksX2_rightBehind_1 17 rfl rfl)
theorem dX2_rightBehind_42 : decode cX2_rightBehind 42 = .ok (.iload_n 1, 1) := dk_27 (dk_at dksX2_rightBehind_1 19 rfl rfl)
theorem dX2_rightBehind_43 : decode cX2_rightBehind 43 = .ok (.invokevirtual 185, 3) := dk_182 0 185 (dk_at dksX2_rightBehind_1 20 rfl rfl)
theorem dX2_rightBehind_46 : decode cX2_rightBehind 46 = .ok (.iinc 5 1, 3) := dk_132 5 1 (dk_at dksX2_rightBehind_2 0 rfl rfl)
theorem dX2_rightBehind_49 : decode cX2_rightBehind 49 = .ok (.goto (-18), 3) := dk_167 255 238 (dk_at dksX2_rightBehind_2 3 rfl rfl)
theorem dX2_rightBehind_52 : decode cX2_rightBehind 52 = .ok (.aload_n 0, 1) := dk_42 (dk_at dksX2_rightBehind_2 6 rfl rfl)
theorem dX2_rightBehind_53 : decode cX2_rightBehind 53 = .ok (.iload 4, 2) := dk_21 4 (dk_at dksX2_rightBehind_2 7 rfl rfl)
theorem dX2_rightBehind_55 : decode cX2_rightBehind 55 = .ok (.invokevirtual 382, 3) := dk_182 1 126 (dk_at dksX2_rightBehind_2 9 rfl rfl)
theorem dX2_rightBehind_58 : decode cX2_rightBehind 58 = .ok (.ireturn, 1) := dk_172 (dk_at dksX2_rightBehind_2 12 rfl rfl)
abbrev cX2_leastStorm : ByteArray := prog_12_method_134_code
def yX2_leastStorm : MethodName := ⟨RX2, "leastStorm", "(II)I"⟩
def dkwX2_leastStorm_3 : List UInt8 := [172]
abbrev dktX2_leastStorm_3 : List UInt8 := dkwX2_leastStorm_3 ++ []
def dkwX2_leastStorm_2 : List UInt8 := [42, 27, 28, 21, 5, 29, 182, 1, 135, 21, 4, 162, 0, 6, 21, 5, 172, 132, 5, 1, 167, 255, 229, 2]
abbrev dktX2_leastStorm_2 : List UInt8 := dkwX2_leastStorm_2 ++ dktX2_leastStorm_3
def dkwX2_leastStorm_1 : List UInt8 := [182, 0, 134, 62, 42, 27, 28, 3, 29, 182, 1, 135, 54, 4, 4, 54, 5, 21, 5, 16, 9, 163, 0, 26]
abbrev dktX2_leastStorm_1 : List UInt8 := dkwX2_leastStorm_1 ++ dktX2_leastStorm_2
def dkwX2_leastStorm_0 : List UInt8 := [42, 42, 180, 0, 56, 42, 27, 28, 182, 1, 132, 182, 1, 37, 154, 0, 5, 3, 172, 42, 28, 4]
abbrev dktX2_leastStorm_0 : List UInt8 := dkwX2_leastStorm_0 ++ dktX2_leastStorm_1
theorem dksX2_leastStorm_0 : cX2_leastStorm.data.toList.drop 0 = dktX2_leastStorm_0 := by decide +kernel
theorem dksX2_leastStorm_1 : cX2_leastStorm.data.toList.drop 22 = dktX2_leastStorm_1 := dk_seg dksX2_leastStorm_0 22 rfl rfl
theorem dksX2_leastStorm_2 : cX2_leastStorm.data.toList.drop 46 = dktX2_leastStorm_2 := dk_seg dksX2_leastStorm_1 24 rfl rfl
theorem dksX2_leastStorm_3 : cX2_leastStorm.data.toList.drop 70 = dktX2_leastStorm_3 := dk_seg dksX2_leastStorm_2 24 rfl rfl
theorem dX2_leastStorm_0 : decode cX2_leastStorm 0 = .ok (.aload_n 0, 1) := dk_42 (dk_at dksX2_leastStorm_0 0 rfl rfl)
theorem dX2_leastStorm_1 : decode cX2_leastStorm 1 = .ok (.aload_n 0, 1) := dk_42 (dk_at dksX2_leastStorm_0 1 rfl rfl)
theorem dX2_leastStorm_2 : decode cX2_leastStorm 2 = .ok (.getfield 56, 3) := dk_180 0 56 (dk_at dksX2_leastStorm_0 2 rfl rfl)
theorem dX2_leastStorm_5 : decode cX2_leastStorm 5 = .ok (.aload_n 0, 1) := dk_42 (dk_at dksX2_leastStorm_0 5 rfl rfl)
theorem dX2_leastStorm_6 : decode cX2_leastStorm 6 = .ok (.iload_n 1, 1) := dk_27 (dk_at dksX2_leastStorm_0 6 rfl rfl)
theorem dX2_leastStorm_7 : decode cX2_leastStorm 7 = .ok (.iload_n 2, 1) := dk_28 (dk_at dksX2_leastStorm_0 7 rfl rfl)
theorem dX2_leastStorm_8 : decode cX2_leastStorm 8 = .ok (.invokevirtual 388, 3) := dk_182 1 132 (dk_at dksX2_leastStorm_0 8 rfl rfl)
theorem dX2_leastStorm_11 : decode cX2_leastStorm 11 = .ok (.invokevirtual 293, 3) := dk_182 1 37 (dk_at dksX2_leastStorm_0 11 rfl rfl)
theorem dX2_leastStorm_14 : decode cX2_leastStorm 14 = .ok (.ifCond .ne 5, 3) := dk_154 0 5 (dk_at dksX2_leastStorm_0 14 rfl rfl)
theorem dX2_leastStorm_17 : decode cX2_leastStorm 17 = .ok (.iconst 0, 1) := dk_3 (dk_at dksX2_leastStorm_0 17 rfl rfl)
theorem dX2_leastStorm_18 : decode cX2_leastStorm 18 = .ok (.ireturn, 1) := dk_172 (dk_at dksX2_leastStorm_0 18 rfl rfl)
theorem dX2_leastStorm_19 : decode cX2_leastStorm 19 = .ok (.aload_n 0, 1) := dk_42 (dk_at dksX2_leastStorm_0 19 rfl rfl)
theorem dX2_leastStorm_20 : decode cX2_leastStorm 20 = .ok (.iload_n 2, 1) := dk_28 (dk_at dksX2_leastStorm_0 20 rfl rfl)
theorem dX2_leastStorm_21 : decode cX2_leastStorm 21 = .ok (.iconst 1, 1) := dk_4 (dk_at dksX2_leastStorm_0 21 rfl rfl)
theorem dX2_leastStorm_22 : decode cX2_leastStorm 22 = .ok (.invokevirtual 134, 3) := dk_182 0 134 (dk_at dksX2_leastStorm_1 0 rfl rfl)
theorem dX2_leastStorm_25 : decode cX2_leastStorm 25 = .ok (.istore_n 3, 1) := dk_62 (dk_at dksX2_leastStorm_1 3 rfl rfl)
theorem dX2_leastStorm_26 : decode cX2_leastStorm 26 = .ok (.aload_n 0, 1) := dk_42 (dk_at dksX2_leastStorm_1 4 rfl rfl)
theorem dX2_leastStorm_27 : decode cX2_leastStorm 27 = .ok (.iload_n 1, 1) := dk_27 (dk_at dksX2_leastStorm_1 5 rfl rfl)
theorem dX2_leastStorm_28 : decode cX2_leastStorm 28 = .ok (.iload_n 2, 1) := dk_28 (dk_at dksX2_leastStorm_1 6 rfl rfl)
theorem dX2_leastStorm_29 : decode cX2_leastStorm 29 = .ok (.iconst 0, 1) := dk_3 (dk_at dksX2_leastStorm_1 7 rfl rfl)
theorem dX2_leastStorm_30 : decode cX2_leastStorm 30 = .ok (.iload_n 3, 1) := dk_29 (dk_at dksX2_leastStorm_1 8 rfl rfl)
theorem dX2_leastStorm_31 : decode cX2_leastStorm 31 = .ok (.invokevirtual 391, 3) := dk_182 1 135 (dk_at dksX2_leastStorm_1 9 rfl rfl)
theorem dX2_leastStorm_34 : decode cX2_leastStorm 34 = .ok (.istore 4, 2) := dk_54 4 (dk_at dksX2_leastStorm_1 12 rfl rfl)
theorem dX2_leastStorm_36 : decode cX2_leastStorm 36 = .ok (.iconst 1, 1) := dk_4 (dk_at dksX2_leastStorm_1 14 rfl rfl)
theorem dX2_leastStorm_37 : decode cX2_leastStorm 37 = .ok (.istore 5, 2) := dk_54 5 (dk_at dksX2_leastStorm_1 15 rfl rfl)
theorem dX2_leastStorm_39 : decode cX2_leastStorm 39 = .ok (.iload 5, 2) := dk_21 5 (dk_at dksX2_leastStorm_1 17 rfl rfl)
theorem dX2_leastStorm_41 : decode cX2_leastStorm 41 = .ok (.bipush 9, 2) := dk_16 9 (dk_at dksX2_leastStorm_1 19 rfl rfl)
theorem dX2_leastStorm_43 : decode cX2_leastStorm 43 = .ok (.if_icmp .gt 26, 3) := dk_163 0 26 (dk_at dksX2_leastStorm_1 21 rfl rfl)
theorem dX2_leastStorm_46 : decode cX2_leastStorm 46 = .ok (.aload_n 0, 1) := dk_42 (dk_at dksX2_leastStorm_2 0 rfl rfl)
theorem dX2_leastStorm_47 : decode cX2_leastStorm 47 = .ok (.iload_n 1, 1) := dk_27 (dk_at dksX2_leastStorm_2 1 rfl rfl)
theorem dX2_leastStorm_48 : decode cX2_leastStorm 48 = .ok (.iload_n 2, 1) := dk_28 (dk_at dksX2_leastStorm_2 2 rfl rfl)
theorem dX2_leastStorm_49 : decode cX2_leastStorm 49 = .ok (.iload 5, 2) := dk_21 5 (dk_at dksX2_leastStorm_2 3 rfl rfl)
theorem dX2_leastStorm_51 : decode cX2_leastStorm 51 = .ok (.iload_n 3, 1) := dk_29 (dk_at dksX2_leastStorm_2 5 rfl rfl)
theorem dX2_leastStorm_52 : decode cX2_leastStorm 52 = .ok (.invokevirtual 391, 3) := dk_182 1 135 (dk_at dksX2_leastStorm_2 6 rfl rfl)
theorem dX2_leastStorm_55 : decode cX2_leastStorm 55 = .ok (.iload 4, 2) := dk_21 4 (dk_at dksX2_leastStorm_2 9 rfl rfl)
theorem dX2_leastStorm_57 : decode cX2_leastStorm 57 = .ok (.if_icmp .ge 6, 3) := dk_162 0 6 (dk_at dksX2_leastStorm_2 11 rfl rfl)
theorem dX2_leastStorm_60 : decode cX2_leastStorm 60 = .ok (.iload 5, 2) := dk_21 5 (dk_at dksX2_leastStorm_2 14 rfl rfl)
theorem dX2_leastStorm_62 : decode cX2_leastStorm 62 = .ok (.ireturn, 1) := dk_172 (dk_at dksX2_leastStorm_2 16 rfl rfl)
theorem dX2_leastStorm_63 : decode cX2_leastStorm 63 = .ok (.iinc 5 1, 3) := dk_132 5 1 (dk_at dksX2_leastStorm_2 17 rfl rfl)
theorem dX2_leastStorm_66 : decode cX2_leastStorm 66 = .ok (.goto (-27), 3) := dk_167 255 229 (dk_at dksX2_leastStorm_2 20 rfl rfl)
theorem dX2_leastStorm_69 : decode cX2_leastStorm 69 = .ok (.iconst (-1), 1) := dk_2 (dk_at dksX2_leastStorm_2 23 rfl rfl)
theorem dX2_leastStorm_70 : decode cX2_leastStorm 70 = .ok (.ireturn, 1) := dk_172 (dk_at dksX2_leastStorm_3 0 rfl rfl)
abbrev cX2_share : ByteArray := prog_12_method_135_code
def yX2_share : MethodName := ⟨RX2, "share", "()F"⟩
def dkwX2_share_1 : List UInt8 := [42, 180, 0, 9, 8, 46, 134, 110, 167, 0, 4, 11, 174]
abbrev dktX2_share_1 : List UInt8 := dkwX2_share_1 ++ []
def dkwX2_share_0 : List UInt8 := [42, 182, 1, 56, 153, 0, 31, 42, 180, 0, 9, 8, 46, 158, 0, 22, 42, 180, 0, 9, 16, 6, 46, 134]
abbrev dktX2_share_0 : List UInt8 := dkwX2_share_0 ++ dktX2_share_1
theorem dksX2_share_0 : cX2_share.data.toList.drop 0 = dktX2_share_0 := by decide +kernel
theorem dksX2_share_1 : cX2_share.data.toList.drop 24 = dktX2_share_1 := dk_seg dksX2_share_0 24 rfl rfl
theorem dX2_share_0 : decode cX2_share 0 = .ok (.aload_n 0, 1) := dk_42 (dk_at dksX2_share_0 0 rfl rfl)
theorem dX2_share_1 : decode cX2_share 1 = .ok (.invokevirtual 312, 3) := dk_182 1 56 (dk_at dksX2_share_0 1 rfl rfl)
theorem dX2_share_4 : decode cX2_share 4 = .ok (.ifCond .eq 31, 3) := dk_153 0 31 (dk_at dksX2_share_0 4 rfl rfl)
theorem dX2_share_7 : decode cX2_share 7 = .ok (.aload_n 0, 1) := dk_42 (dk_at dksX2_share_0 7 rfl rfl)
theorem dX2_share_8 : decode cX2_share 8 = .ok (.getfield 9, 3) := dk_180 0 9 (dk_at dksX2_share_0 8 rfl rfl)
theorem dX2_share_11 : decode cX2_share 11 = .ok (.iconst 5, 1) := dk_8 (dk_at dksX2_share_0 11 rfl rfl)
theorem dX2_share_12 : decode cX2_share 12 = .ok (.iaload, 1) := dk_46 (dk_at dksX2_share_0 12 rfl rfl)
theorem dX2_share_13 : decode cX2_share 13 = .ok (.ifCond .le 22, 3) := dk_158 0 22 (dk_at dksX2_share_0 13 rfl rfl)
theorem dX2_share_16 : decode cX2_share 16 = .ok (.aload_n 0, 1) := dk_42 (dk_at dksX2_share_0 16 rfl rfl)
theorem dX2_share_17 : decode cX2_share 17 = .ok (.getfield 9, 3) := dk_180 0 9 (dk_at dksX2_share_0 17 rfl rfl)
theorem dX2_share_20 : decode cX2_share 20 = .ok (.bipush 6, 2) := dk_16 6 (dk_at dksX2_share_0 20 rfl rfl)
theorem dX2_share_22 : decode cX2_share 22 = .ok (.iaload, 1) := dk_46 (dk_at dksX2_share_0 22 rfl rfl)
theorem dX2_share_23 : decode cX2_share 23 = .ok (.i2f, 1) := dk_134 (dk_at dksX2_share_0 23 rfl rfl)
theorem dX2_share_24 : decode cX2_share 24 = .ok (.aload_n 0, 1) := dk_42 (dk_at dksX2_share_1 0 rfl rfl)
theorem dX2_share_25 : decode cX2_share 25 = .ok (.getfield 9, 3) := dk_180 0 9 (dk_at dksX2_share_1 1 rfl rfl)
theorem dX2_share_28 : decode cX2_share 28 = .ok (.iconst 5, 1) := dk_8 (dk_at dksX2_share_1 4 rfl rfl)
theorem dX2_share_29 : decode cX2_share 29 = .ok (.iaload, 1) := dk_46 (dk_at dksX2_share_1 5 rfl rfl)
theorem dX2_share_30 : decode cX2_share 30 = .ok (.i2f, 1) := dk_134 (dk_at dksX2_share_1 6 rfl rfl)
theorem dX2_share_31 : decode cX2_share 31 = .ok (.fdiv, 1) := dk_110 (dk_at dksX2_share_1 7 rfl rfl)
theorem dX2_share_32 : decode cX2_share 32 = .ok (.goto 4, 3) := dk_167 0 4 (dk_at dksX2_share_1 8 rfl rfl)
theorem dX2_share_35 : decode cX2_share 35 = .ok (.fconst 0, 1) := dk_11 (dk_at dksX2_share_1 11 rfl rfl)
theorem dX2_share_36 : decode cX2_share 36 = .ok (.freturn, 1) := dk_174 (dk_at dksX2_share_1 12 rfl rfl)
abbrev cX2_meanHours : ByteArray := prog_12_method_137_code
def yX2_meanHours : MethodName := ⟨RX2, "meanHours", "()D"⟩
def dkwX2_meanHours_1 : List UInt8 := [111, 167, 0, 4, 14, 175]
abbrev dktX2_meanHours_1 : List UInt8 := dkwX2_meanHours_1 ++ []
def dkwX2_meanHours_0 : List UInt8 := [42, 182, 1, 56, 153, 0, 24, 42, 182, 1, 31, 158, 0, 17, 42, 182, 1, 151, 135, 42, 182, 1, 31, 135]
abbrev dktX2_meanHours_0 : List UInt8 := dkwX2_meanHours_0 ++ dktX2_meanHours_1
theorem dksX2_meanHours_0 : cX2_meanHours.data.toList.drop 0 = dktX2_meanHours_0 := by decide +kernel
theorem dksX2_meanHours_1 : cX2_meanHours.data.toList.drop 24 = dktX2_meanHours_1 := dk_seg dksX2_meanHours_0 24 rfl rfl
theorem dX2_meanHours_0 : decode cX2_meanHours 0 = .ok (.aload_n 0, 1) := dk_42 (dk_at dksX2_meanHours_0 0 rfl rfl)
theorem dX2_meanHours_1 : decode cX2_meanHours 1 = .ok (.invokevirtual 312, 3) := dk_182 1 56 (dk_at dksX2_meanHours_0 1 rfl rfl)
theorem dX2_meanHours_4 : decode cX2_meanHours 4 = .ok (.ifCond .eq 24, 3) := dk_153 0 24 (dk_at dksX2_meanHours_0 4 rfl rfl)
theorem dX2_meanHours_7 : decode cX2_meanHours 7 = .ok (.aload_n 0, 1) := dk_42 (dk_at dksX2_meanHours_0 7 rfl rfl)
theorem dX2_meanHours_8 : decode cX2_meanHours 8 = .ok (.invokevirtual 287, 3) := dk_182 1 31 (dk_at dksX2_meanHours_0 8 rfl rfl)
theorem dX2_meanHours_11 : decode cX2_meanHours 11 = .ok (.ifCond .le 17, 3) := dk_158 0 17 (dk_at dksX2_meanHours_0 11 rfl rfl)
theorem dX2_meanHours_14 : decode cX2_meanHours 14 = .ok (.aload_n 0, 1) := dk_42 (dk_at dksX2_meanHours_0 14 rfl rfl)
theorem dX2_meanHours_15 : decode cX2_meanHours 15 = .ok (.invokevirtual 407, 3) := dk_182 1 151 (dk_at dksX2_meanHours_0 15 rfl rfl)
theorem dX2_meanHours_18 : decode cX2_meanHours 18 = .ok (.i2d, 1) := dk_135 (dk_at dksX2_meanHours_0 18 rfl rfl)
theorem dX2_meanHours_19 : decode cX2_meanHours 19 = .ok (.aload_n 0, 1) := dk_42 (dk_at dksX2_meanHours_0 19 rfl rfl)
theorem dX2_meanHours_20 : decode cX2_meanHours 20 = .ok (.invokevirtual 287, 3) := dk_182 1 31 (dk_at dksX2_meanHours_0 20 rfl rfl)
theorem dX2_meanHours_23 : decode cX2_meanHours 23 = .ok (.i2d, 1) := dk_135 (dk_at dksX2_meanHours_0 23 rfl rfl)
theorem dX2_meanHours_24 : decode cX2_meanHours 24 = .ok (.ddiv, 1) := dk_111 (dk_at dksX2_meanHours_1 0 rfl rfl)
theorem dX2_meanHours_25 : decode cX2_meanHours 25 = .ok (.goto 4, 3) := dk_167 0 4 (dk_at dksX2_meanHours_1 1 rfl rfl)
theorem dX2_meanHours_28 : decode cX2_meanHours 28 = .ok (.dconst 0, 1) := dk_14 (dk_at dksX2_meanHours_1 4 rfl rfl)
theorem dX2_meanHours_29 : decode cX2_meanHours 29 = .ok (.dreturn, 1) := dk_175 (dk_at dksX2_meanHours_1 5 rfl rfl)
abbrev cX2_allHours : ByteArray := prog_12_method_136_code
def yX2_allHours : MethodName := ⟨RX2, "allHours", "()I"⟩
def dkwX2_allHours_2 : List UInt8 := [167, 255, 213, 27, 172]
abbrev dktX2_allHours_2 : List UInt8 := dkwX2_allHours_2 ++ []
def dkwX2_allHours_1 : List UInt8 := [167, 0, 18, 42, 28, 7, 182, 0, 238, 42, 28, 6, 182, 0, 238, 100, 4, 96, 96, 60, 132, 2, 1]
abbrev dktX2_allHours_1 : List UInt8 := dkwX2_allHours_1 ++ dktX2_allHours_2
def dkwX2_allHours_0 : List UInt8 := [3, 60, 3, 61, 28, 42, 180, 0, 9, 6, 46, 162, 0, 39, 27, 42, 28, 182, 0, 146, 153, 0, 7, 3]
abbrev dktX2_allHours_0 : List UInt8 := dkwX2_allHours_0 ++ dktX2_allHours_1
theorem dksX2_allHours_0 : cX2_allHours.data.toList.drop 0 = dktX2_allHours_0 := by decide +kernel
theorem dksX2_allHours_1 : cX2_allHours.data.toList.drop 24 = dktX2_allHours_1 := dk_seg dksX2_allHours_0 24 rfl rfl
theorem dksX2_allHours_2 : cX2_allHours.data.toList.drop 47 = dktX2_allHours_2 := dk_seg dksX2_allHours_1 23 rfl rfl
theorem dX2_allHours_0 : decode cX2_allHours 0 = .ok (.iconst 0, 1) := dk_3 (dk_at dksX2_allHours_0 0 rfl rfl)
theorem dX2_allHours_1 : decode cX2_allHours 1 = .ok (.istore_n 1, 1) := dk_60 (dk_at dksX2_allHours_0 1 rfl rfl)
theorem dX2_allHours_2 : decode cX2_allHours 2 = .ok (.iconst 0, 1) := dk_3 (dk_at dksX2_allHours_0 2 rfl rfl)
theorem dX2_allHours_3 : decode cX2_allHours 3 = .ok (.istore_n 2, 1) := dk_61 (dk_at dksX2_allHours_0 3 rfl rfl)
theorem dX2_allHours_4 : decode cX2_allHours 4 = .ok (.iload_n 2, 1) := dk_28 (dk_at dksX2_allHours_0 4 rfl rfl)
theorem dX2_allHours_5 : decode cX2_allHours 5 = .ok (.aload_n 0, 1) := dk_42 (dk_at dksX2_allHours_0 5 rfl rfl)
theorem dX2_allHours_6 : decode cX2_allHours 6 = .ok (.getfield 9, 3) := dk_180 0 9 (dk_at dksX2_allHours_0 6 rfl rfl)
theorem dX2_allHours_9 : decode cX2_allHours 9 = .ok (.iconst 3, 1) := dk_6 (dk_at dksX2_allHours_0 9 rfl rfl)
theorem dX2_allHours_10 : decode cX2_allHours 10 = .ok (.iaload, 1) := dk_46 (dk_at dksX2_allHours_0 10 rfl rfl)
theorem dX2_allHours_11 : decode cX2_allHours 11 = .ok (.if_icmp .ge 39, 3) := dk_162 0 39 (dk_at dksX2_allHours_0 11 rfl rfl)
theorem dX2_allHours_14 : decode cX2_allHours 14 = .ok (.iload_n 1, 1) := dk_27 (dk_at dksX2_allHours_0 14 rfl rfl)
theorem dX2_allHours_15 : decode cX2_allHours 15 = .ok (.aload_n 0, 1) := dk_42 (dk_at dksX2_allHours_0 15 rfl rfl)
theorem dX2_allHours_16 : decode cX2_allHours 16 = .ok (.iload_n 2, 1) := dk_28 (dk_at dksX2_allHours_0 16 rfl rfl)
theorem dX2_allHours_17 : decode cX2_allHours 17 = .ok (.invokevirtual 146, 3) := dk_182 0 146 (dk_at dksX2_allHours_0 17 rfl rfl)
theorem dX2_allHours_20 : decode cX2_allHours 20 = .ok (.ifCond .eq 7, 3) := dk_153 0 7 (dk_at dksX2_allHours_0 20 rfl rfl)
theorem dX2_allHours_23 : decode cX2_allHours 23 = .ok (.iconst 0, 1) := dk_3 (dk_at dksX2_allHours_0 23 rfl rfl)
theorem dX2_allHours_24 : decode cX2_allHours 24 = .ok (.goto 18, 3) := dk_167 0 18 (dk_at dksX2_allHours_1 0 rfl rfl)
theorem dX2_allHours_27 : decode cX2_allHours 27 = .ok (.aload_n 0, 1) := dk_42 (dk_at dksX2_allHours_1 3 rfl rfl)
theorem dX2_allHours_28 : decode cX2_allHours 28 = .ok (.iload_n 2, 1) := dk_28 (dk_at dksX2_allHours_1 4 rfl rfl)
theorem dX2_allHours_29 : decode cX2_allHours 29 = .ok (.iconst 4, 1) := dk_7 (dk_at dksX2_allHours_1 5 rfl rfl)
theorem dX2_allHours_30 : decode cX2_allHours 30 = .ok (.invokevirtual 238, 3) := dk_182 0 238 (dk_at dksX2_allHours_1 6 rfl rfl)
theorem dX2_allHours_33 : decode cX2_allHours 33 = .ok (.aload_n 0, 1) := dk_42 (dk_at dksX2_allHours_1 9 rfl rfl)
theorem dX2_allHours_34 : decode cX2_allHours 34 = .ok (.iload_n 2, 1) := dk_28 (dk_at dksX2_allHours_1 10 rfl rfl)
theorem dX2_allHours_35 : decode cX2_allHours 35 = .ok (.iconst 3, 1) := dk_6 (dk_at dksX2_allHours_1 11 rfl rfl)
theorem dX2_allHours_36 : decode cX2_allHours 36 = .ok (.invokevirtual 238, 3) := dk_182 0 238 (dk_at dksX2_allHours_1 12 rfl rfl)
theorem dX2_allHours_39 : decode cX2_allHours 39 = .ok (.isub, 1) := dk_100 (dk_at dksX2_allHours_1 15 rfl rfl)
theorem dX2_allHours_40 : decode cX2_allHours 40 = .ok (.iconst 1, 1) := dk_4 (dk_at dksX2_allHours_1 16 rfl rfl)
theorem dX2_allHours_41 : decode cX2_allHours 41 = .ok (.iadd, 1) := dk_96 (dk_at dksX2_allHours_1 17 rfl rfl)
theorem dX2_allHours_42 : decode cX2_allHours 42 = .ok (.iadd, 1) := dk_96 (dk_at dksX2_allHours_1 18 rfl rfl)
theorem dX2_allHours_43 : decode cX2_allHours 43 = .ok (.istore_n 1, 1) := dk_60 (dk_at dksX2_allHours_1 19 rfl rfl)
theorem dX2_allHours_44 : decode cX2_allHours 44 = .ok (.iinc 2 1, 3) := dk_132 2 1 (dk_at dksX2_allHours_1 20 rfl rfl)
theorem dX2_allHours_47 : decode cX2_allHours 47 = .ok (.goto (-43), 3) := dk_167 255 213 (dk_at dksX2_allHours_2 0 rfl rfl)
theorem dX2_allHours_50 : decode cX2_allHours 50 = .ok (.iload_n 1, 1) := dk_27 (dk_at dksX2_allHours_2 3 rfl rfl)
theorem dX2_allHours_51 : decode cX2_allHours 51 = .ok (.ireturn, 1) := dk_172 (dk_at dksX2_allHours_2 4 rfl rfl)
abbrev cX2_writeMessage : ByteArray := prog_12_method_141_code
def yX2_writeMessage : MethodName := ⟨RX2, "writeMessage", "(I)I"⟩
def dkwX2_writeMessage_3 : List UInt8 := [172]
abbrev dktX2_writeMessage_3 : List UInt8 := dkwX2_writeMessage_3 ++ []
def dkwX2_writeMessage_2 : List UInt8 := [28, 29, 182, 1, 1, 182, 1, 160, 132, 3, 1, 167, 255, 232, 132, 2, 1, 167, 255, 209, 42, 180, 1, 154]
abbrev dktX2_writeMessage_2 : List UInt8 := dkwX2_writeMessage_2 ++ dktX2_writeMessage_3
def dkwX2_writeMessage_1 : List UInt8 := [158, 0, 9, 42, 16, 47, 182, 1, 157, 3, 62, 29, 42, 27, 3, 182, 0, 238, 162, 0, 20, 42, 42, 27]
abbrev dktX2_writeMessage_1 : List UInt8 := dkwX2_writeMessage_1 ++ dktX2_writeMessage_2
def dkwX2_writeMessage_0 : List UInt8 := [42, 27, 182, 1, 94, 154, 0, 5, 3, 172, 42, 3, 181, 1, 154, 3, 61, 28, 6, 162, 0, 48, 28]
abbrev dktX2_writeMessage_0 : List UInt8 := dkwX2_writeMessage_0 ++ dktX2_writeMessage_1
theorem dksX2_writeMessage_0 : cX2_writeMessage.data.toList.drop 0 = dktX2_writeMessage_0 := by decide +kernel
theorem dksX2_writeMessage_1 : cX2_writeMessage.data.toList.drop 23 = dktX2_writeMessage_1 := dk_seg dksX2_writeMessage_0 23 rfl rfl
theorem dksX2_writeMessage_2 : cX2_writeMessage.data.toList.drop 47 = dktX2_writeMessage_2 := dk_seg dksX2_writeMessage_1 24 rfl rfl
theorem dksX2_writeMessage_3 : cX2_writeMessage.data.toList.drop 71 = dktX2_writeMessage_3 := dk_seg dksX2_writeMessage_2 24 rfl rfl
theorem dX2_writeMessage_0 : decode cX2_writeMessage 0 = .ok (.aload_n 0, 1) := dk_42 (dk_at dksX2_writeMessage_0 0 rfl rfl)
theorem dX2_writeMessage_1 : decode cX2_writeMessage 1 = .ok (.iload_n 1, 1) := dk_27 (dk_at dksX2_writeMessage_0 1 rfl rfl)
theorem dX2_writeMessage_2 : decode cX2_writeMessage 2 = .ok (.invokevirtual 350, 3) := dk_182 1 94 (dk_at dksX2_writeMessage_0 2 rfl rfl)
theorem dX2_writeMessage_5 : decode cX2_writeMessage 5 = .ok (.ifCond .ne 5, 3) := dk_154 0 5 (dk_at dksX2_writeMessage_0 5 rfl rfl)
theorem dX2_writeMessage_8 : decode cX2_writeMessage 8 = .ok (.iconst 0, 1) := dk_3 (dk_at dksX2_writeMessage_0 8 rfl rfl)
theorem dX2_writeMessage_9 : decode cX2_writeMessage 9 = .ok (.ireturn, 1) := dk_172 (dk_at dksX2_writeMessage_0 9 rfl rfl)
theorem dX2_writeMessage_10 : decode cX2_writeMessage 10 = .ok (.aload_n 0, 1) := dk_42 (dk_at dksX2_writeMessage_0 10 rfl rfl)
theorem dX2_writeMessage_11 : decode cX2_writeMessage 11 = .ok (.iconst 0, 1) := dk_3 (dk_at dksX2_writeMessage_0 11 rfl rfl)
theorem dX2_writeMessage_12 : decode cX2_writeMessage 12 = .ok (.putfield 410, 3) := dk_181 1 154 (dk_at dksX2_writeMessage_0 12 rfl rfl)
theorem dX2_writeMessage_15 : decode cX2_writeMessage 15 = .ok (.iconst 0, 1) := dk_3 (dk_at dksX2_writeMessage_0 15 rfl rfl)
theorem dX2_writeMessage_16 : decode cX2_writeMessage 16 = .ok (.istore_n 2, 1) := dk_61 (dk_at dksX2_writeMessage_0 16 rfl rfl)
theorem dX2_writeMessage_17 : decode cX2_writeMessage 17 = .ok (.iload_n 2, 1) := dk_28 (dk_at dksX2_writeMessage_0 17 rfl rfl)
theorem dX2_writeMessage_18 : decode cX2_writeMessage 18 = .ok (.iconst 3, 1) := dk_6 (dk_at dksX2_writeMessage_0 18 rfl rfl)
theorem dX2_writeMessage_19 : decode cX2_writeMessage 19 = .ok (.if_icmp .ge 48, 3) := dk_162 0 48 (dk_at dksX2_writeMessage_0 19 rfl rfl)
theorem dX2_writeMessage_22 : decode cX2_writeMessage 22 = .ok (.iload_n 2, 1) := dk_28 (dk_at dksX2_writeMessage_0 22 rfl rfl)
theorem dX2_writeMessage_23 : decode cX2_writeMessage 23 = .ok (.ifCond .le 9, 3) := dk_158 0 9 (dk_at dksX2_writeMessage_1 0 rfl rfl)
theorem dX2_writeMessage_26 : decode cX2_writeMessage 26 = .ok (.aload_n 0, 1) := dk_42 (dk_at dksX2_writeMessage_1 3 rfl rfl)
theorem dX2_writeMessage_27 : decode cX2_writeMessage 27 = .ok (.bipush 47, 2) := dk_16 47 (dk_at dksX2_writeMessage_1 4 rfl rfl)
theorem dX2_writeMessage_29 : decode cX2_writeMessage 29 = .ok (.invokevirtual 413, 3) := dk_182 1 157 (dk_at dksX2_writeMessage_1 6 rfl rfl)
theorem dX2_writeMessage_32 : decode cX2_writeMessage 32 = .ok (.iconst 0, 1) := dk_3 (dk_at dksX2_writeMessage_1 9 rfl rfl)
theorem dX2_writeMessage_33 : decode cX2_writeMessage 33 = .ok (.istore_n 3, 1) := dk_62 (dk_at dksX2_writeMessage_1 10 rfl rfl)
theorem dX2_writeMessage_34 : decode cX2_writeMessage 34 = .ok (.iload_n 3, 1) := dk_29 (dk_at dksX2_writeMessage_1 11 rfl rfl)
theorem dX2_writeMessage_35 : decode cX2_writeMessage 35 = .ok (.aload_n 0, 1) := dk_42 (dk_at dksX2_writeMessage_1 12 rfl rfl)
theorem dX2_writeMessage_36 : decode cX2_writeMessage 36 = .ok (.iload_n 1, 1) := dk_27 (dk_at dksX2_writeMessage_1 13 rfl rfl)
theorem dX2_writeMessage_37 : decode cX2_writeMessage 37 = .ok (.iconst 0, 1) := dk_3 (dk_at dksX2_writeMessage_1 14 rfl rfl)
theorem dX2_writeMessage_38 : decode cX2_writeMessage 38 = .ok (.invokevirtual 238, 3) := dk_182 0 238 (dk_at dksX2_writeMessage_1 15 rfl rfl)
theorem dX2_writeMessage_41 : decode cX2_writeMessage 41 = .ok (.if_icmp .ge 20, 3) := dk_162 0 20 (dk_at dksX2_writeMessage_1 18 rfl rfl)
theorem dX2_writeMessage_44 : decode cX2_writeMessage 44 = .ok (.aload_n 0, 1) := dk_42 (dk_at dksX2_writeMessage_1 21 rfl rfl)
theorem dX2_writeMessage_45 : decode cX2_writeMessage 45 = .ok (.aload_n 0, 1) := dk_42 (dk_at dksX2_writeMessage_1 22 rfl rfl)
theorem dX2_writeMessage_46 : decode cX2_writeMessage 46 = .ok (.iload_n 1, 1) := dk_27 (dk_at dksX2_writeMessage_1 23 rfl rfl)
theorem dX2_writeMessage_47 : decode cX2_writeMessage 47 = .ok (.iload_n 2, 1) := dk_28 (dk_at dksX2_writeMessage_2 0 rfl rfl)
theorem dX2_writeMessage_48 : decode cX2_writeMessage 48 = .ok (.iload_n 3, 1) := dk_29 (dk_at dksX2_writeMessage_2 1 rfl rfl)
theorem dX2_writeMessage_49 : decode cX2_writeMessage 49 = .ok (.invokevirtual 257, 3) := dk_182 1 1 (dk_at dksX2_writeMessage_2 2 rfl rfl)
theorem dX2_writeMessage_52 : decode cX2_writeMessage 52 = .ok (.invokevirtual 416, 3) := dk_182 1 160 (dk_at dksX2_writeMessage_2 5 rfl rfl)
theorem dX2_writeMessage_55 : decode cX2_writeMessage 55 = .ok (.iinc 3 1, 3) := dk_132 3 1 (dk_at dksX2_writeMessage_2 8 rfl rfl)
theorem dX2_writeMessage_58 : decode cX2_writeMessage 58 = .ok (.goto (-24), 3) := dk_167 255 232 (dk_at dksX2_writeMessage_2 11 rfl rfl)
theorem dX2_writeMessage_61 : decode cX2_writeMessage 61 = .ok (.iinc 2 1, 3) := dk_132 2 1 (dk_at dksX2_writeMessage_2 14 rfl rfl)
theorem dX2_writeMessage_64 : decode cX2_writeMessage 64 = .ok (.goto (-47), 3) := dk_167 255 209 (dk_at dksX2_writeMessage_2 17 rfl rfl)
theorem dX2_writeMessage_67 : decode cX2_writeMessage 67 = .ok (.aload_n 0, 1) := dk_42 (dk_at dksX2_writeMessage_2 20 rfl rfl)
theorem dX2_writeMessage_68 : decode cX2_writeMessage 68 = .ok (.getfield 410, 3) := dk_180 1 154 (dk_at dksX2_writeMessage_2 21 rfl rfl)
theorem dX2_writeMessage_71 : decode cX2_writeMessage 71 = .ok (.ireturn, 1) := dk_172 (dk_at dksX2_writeMessage_3 0 rfl rfl)
abbrev cX2_writesByte : ByteArray := prog_12_method_138_code
def yX2_writesByte : MethodName := ⟨RX2, "writesByte", "(I)V"⟩
def dkwX2_writesByte_0 : List UInt8 := [42, 180, 0, 40, 42, 180, 1, 154, 27, 145, 84, 42, 89, 180, 1, 154, 4, 96, 181, 1, 154, 177]
abbrev dktX2_writesByte_0 : List UInt8 := dkwX2_writesByte_0 ++ []
theorem dksX2_writesByte_0 : cX2_writesByte.data.toList.drop 0 = dktX2_writesByte_0 := by decide +kernel
theorem dX2_writesByte_0 : decode cX2_writesByte 0 = .ok (.aload_n 0, 1) := dk_42 (dk_at dksX2_writesByte_0 0 rfl rfl)
theorem dX2_writesByte_1 : decode cX2_writesByte 1 = .ok (.getfield 40, 3) := dk_180 0 40 (dk_at dksX2_writesByte_0 1 rfl rfl)
theorem dX2_writesByte_4 : decode cX2_writesByte 4 = .ok (.aload_n 0, 1) := dk_42 (dk_at dksX2_writesByte_0 4 rfl rfl)
theorem dX2_writesByte_5 : decode cX2_writesByte 5 = .ok (.getfield 410, 3) := dk_180 1 154 (dk_at dksX2_writesByte_0 5 rfl rfl)
theorem dX2_writesByte_8 : decode cX2_writesByte 8 = .ok (.iload_n 1, 1) := dk_27 (dk_at dksX2_writesByte_0 8 rfl rfl)
theorem dX2_writesByte_9 : decode cX2_writesByte 9 = .ok (.i2b, 1) := dk_145 (dk_at dksX2_writesByte_0 9 rfl rfl)
theorem dX2_writesByte_10 : decode cX2_writesByte 10 = .ok (.bastore, 1) := dk_84 (dk_at dksX2_writesByte_0 10 rfl rfl)
theorem dX2_writesByte_11 : decode cX2_writesByte 11 = .ok (.aload_n 0, 1) := dk_42 (dk_at dksX2_writesByte_0 11 rfl rfl)
theorem dX2_writesByte_12 : decode cX2_writesByte 12 = .ok (.dup, 1) := dk_89 (dk_at dksX2_writesByte_0 12 rfl rfl)
theorem dX2_writesByte_13 : decode cX2_writesByte 13 = .ok (.getfield 410, 3) := dk_180 1 154 (dk_at dksX2_writesByte_0 13 rfl rfl)
theorem dX2_writesByte_16 : decode cX2_writesByte 16 = .ok (.iconst 1, 1) := dk_4 (dk_at dksX2_writesByte_0 16 rfl rfl)
theorem dX2_writesByte_17 : decode cX2_writesByte 17 = .ok (.iadd, 1) := dk_96 (dk_at dksX2_writesByte_0 17 rfl rfl)
theorem dX2_writesByte_18 : decode cX2_writesByte 18 = .ok (.putfield 410, 3) := dk_181 1 154 (dk_at dksX2_writesByte_0 18 rfl rfl)
theorem dX2_writesByte_21 : decode cX2_writesByte 21 = .ok (.return_, 1) := dk_177 (dk_at dksX2_writesByte_0 21 rfl rfl)
abbrev cX2_writesDigit : ByteArray := prog_12_method_140_code
def yX2_writesDigit : MethodName := ⟨RX2, "writesDigit", "(I)V"⟩
def dkwX2_writesDigit_0 : List UInt8 := [42, 27, 2, 160, 0, 8, 16, 63, 167, 0, 7, 16, 48, 27, 96, 182, 1, 157, 177]
abbrev dktX2_writesDigit_0 : List UInt8 := dkwX2_writesDigit_0 ++ []
theorem dksX2_writesDigit_0 : cX2_writesDigit.data.toList.drop 0 = dktX2_writesDigit_0 := by decide +kernel
theorem dX2_writesDigit_0 : decode cX2_writesDigit 0 = .ok (.aload_n 0, 1) := dk_42 (dk_at dksX2_writesDigit_0 0 rfl rfl)
theorem dX2_writesDigit_1 : decode cX2_writesDigit 1 = .ok (.iload_n 1, 1) := dk_27 (dk_at dksX2_writesDigit_0 1 rfl rfl)
theorem dX2_writesDigit_2 : decode cX2_writesDigit 2 = .ok (.iconst (-1), 1) := dk_2 (dk_at dksX2_writesDigit_0 2 rfl rfl)
theorem dX2_writesDigit_3 : decode cX2_writesDigit 3 = .ok (.if_icmp .ne 8, 3) := dk_160 0 8 (dk_at dksX2_writesDigit_0 3 rfl rfl)
theorem dX2_writesDigit_6 : decode cX2_writesDigit 6 = .ok (.bipush 63, 2) := dk_16 63 (dk_at dksX2_writesDigit_0 6 rfl rfl)
theorem dX2_writesDigit_8 : decode cX2_writesDigit 8 = .ok (.goto 7, 3) := dk_167 0 7 (dk_at dksX2_writesDigit_0 8 rfl rfl)
theorem dX2_writesDigit_11 : decode cX2_writesDigit 11 = .ok (.bipush 48, 2) := dk_16 48 (dk_at dksX2_writesDigit_0 11 rfl rfl)
theorem dX2_writesDigit_13 : decode cX2_writesDigit 13 = .ok (.iload_n 1, 1) := dk_27 (dk_at dksX2_writesDigit_0 13 rfl rfl)
theorem dX2_writesDigit_14 : decode cX2_writesDigit 14 = .ok (.iadd, 1) := dk_96 (dk_at dksX2_writesDigit_0 14 rfl rfl)
theorem dX2_writesDigit_15 : decode cX2_writesDigit 15 = .ok (.invokevirtual 413, 3) := dk_182 1 157 (dk_at dksX2_writesDigit_0 15 rfl rfl)
theorem dX2_writesDigit_18 : decode cX2_writesDigit 18 = .ok (.return_, 1) := dk_177 (dk_at dksX2_writesDigit_0 18 rfl rfl)
abbrev cX2_writeBelieved : ByteArray := prog_12_method_142_code
def yX2_writeBelieved : MethodName := ⟨RX2, "writeBelieved", "(I)I"⟩
def dkwX2_writeBelieved_1 : List UInt8 := [162, 0, 19, 42, 42, 27, 28, 182, 1, 91, 182, 1, 160, 132, 2, 1, 167, 255, 233, 42, 180, 1, 154, 172]
abbrev dktX2_writeBelieved_1 : List UInt8 := dkwX2_writeBelieved_1 ++ []
def dkwX2_writeBelieved_0 : List UInt8 := [42, 27, 182, 1, 94, 154, 0, 5, 3, 172, 42, 3, 181, 1, 154, 3, 61, 28, 42, 27, 3, 182, 0, 238]
abbrev dktX2_writeBelieved_0 : List UInt8 := dkwX2_writeBelieved_0 ++ dktX2_writeBelieved_1
theorem dksX2_writeBelieved_0 : cX2_writeBelieved.data.toList.drop 0 = dktX2_writeBelieved_0 := by decide +kernel
theorem dksX2_writeBelieved_1 : cX2_writeBelieved.data.toList.drop 24 = dktX2_writeBelieved_1 := dk_seg dksX2_writeBelieved_0 24 rfl rfl
theorem dX2_writeBelieved_0 : decode cX2_writeBelieved 0 = .ok (.aload_n 0, 1) := dk_42 (dk_at dksX2_writeBelieved_0 0 rfl rfl)
theorem dX2_writeBelieved_1 : decode cX2_writeBelieved 1 = .ok (.iload_n 1, 1) := dk_27 (dk_at dksX2_writeBelieved_0 1 rfl rfl)
theorem dX2_writeBelieved_2 : decode cX2_writeBelieved 2 = .ok (.invokevirtual 350, 3) := dk_182 1 94 (dk_at dksX2_writeBelieved_0 2 rfl rfl)
theorem dX2_writeBelieved_5 : decode cX2_writeBelieved 5 = .ok (.ifCond .ne 5, 3) := dk_154 0 5 (dk_at dksX2_writeBelieved_0 5 rfl rfl)
theorem dX2_writeBelieved_8 : decode cX2_writeBelieved 8 = .ok (.iconst 0, 1) := dk_3 (dk_at dksX2_writeBelieved_0 8 rfl rfl)
theorem dX2_writeBelieved_9 : decode cX2_writeBelieved 9 = .ok (.ireturn, 1) := dk_172 (dk_at dksX2_writeBelieved_0 9 rfl rfl)
theorem dX2_writeBelieved_10 : decode cX2_writeBelieved 10 = .ok (.aload_n 0, 1) := dk_42 (dk_at dksX2_writeBelieved_0 10 rfl rfl)
theorem dX2_writeBelieved_11 : decode cX2_writeBelieved 11 = .ok (.iconst 0, 1) := dk_3 (dk_at dksX2_writeBelieved_0 11 rfl rfl)
theorem dX2_writeBelieved_12 : decode cX2_writeBelieved 12 = .ok (.putfield 410, 3) := dk_181 1 154 (dk_at dksX2_writeBelieved_0 12 rfl rfl)
theorem dX2_writeBelieved_15 : decode cX2_writeBelieved 15 = .ok (.iconst 0, 1) := dk_3 (dk_at dksX2_writeBelieved_0 15 rfl rfl)
theorem dX2_writeBelieved_16 : decode cX2_writeBelieved 16 = .ok (.istore_n 2, 1) := dk_61 (dk_at dksX2_writeBelieved_0 16 rfl rfl)
theorem dX2_writeBelieved_17 : decode cX2_writeBelieved 17 = .ok (.iload_n 2, 1) := dk_28 (dk_at dksX2_writeBelieved_0 17 rfl rfl)
theorem dX2_writeBelieved_18 : decode cX2_writeBelieved 18 = .ok (.aload_n 0, 1) := dk_42 (dk_at dksX2_writeBelieved_0 18 rfl rfl)
theorem dX2_writeBelieved_19 : decode cX2_writeBelieved 19 = .ok (.iload_n 1, 1) := dk_27 (dk_at dksX2_writeBelieved_0 19 rfl rfl)
theorem dX2_writeBelieved_20 : decode cX2_writeBelieved 20 = .ok (.iconst 0, 1) := dk_3 (dk_at dksX2_writeBelieved_0 20 rfl rfl)
theorem dX2_writeBelieved_21 : decode cX2_writeBelieved 21 = .ok (.invokevirtual 238, 3) := dk_182 0 238 (dk_at dksX2_writeBelieved_0 21 rfl rfl)
theorem dX2_writeBelieved_24 : decode cX2_writeBelieved 24 = .ok (.if_icmp .ge 19, 3) := dk_162 0 19 (dk_at dksX2_writeBelieved_1 0 rfl rfl)
theorem dX2_writeBelieved_27 : decode cX2_writeBelieved 27 = .ok (.aload_n 0, 1) := dk_42 (dk_at dksX2_writeBelieved_1 3 rfl rfl)
theorem dX2_writeBelieved_28 : decode cX2_writeBelieved 28 = .ok (.aload_n 0, 1) := dk_42 (dk_at dksX2_writeBelieved_1 4 rfl rfl)
theorem dX2_writeBelieved_29 : decode cX2_writeBelieved 29 = .ok (.iload_n 1, 1) := dk_27 (dk_at dksX2_writeBelieved_1 5 rfl rfl)
theorem dX2_writeBelieved_30 : decode cX2_writeBelieved 30 = .ok (.iload_n 2, 1) := dk_28 (dk_at dksX2_writeBelieved_1 6 rfl rfl)
theorem dX2_writeBelieved_31 : decode cX2_writeBelieved 31 = .ok (.invokevirtual 347, 3) := dk_182 1 91 (dk_at dksX2_writeBelieved_1 7 rfl rfl)
theorem dX2_writeBelieved_34 : decode cX2_writeBelieved 34 = .ok (.invokevirtual 416, 3) := dk_182 1 160 (dk_at dksX2_writeBelieved_1 10 rfl rfl)
theorem dX2_writeBelieved_37 : decode cX2_writeBelieved 37 = .ok (.iinc 2 1, 3) := dk_132 2 1 (dk_at dksX2_writeBelieved_1 13 rfl rfl)
theorem dX2_writeBelieved_40 : decode cX2_writeBelieved 40 = .ok (.goto (-23), 3) := dk_167 255 233 (dk_at dksX2_writeBelieved_1 16 rfl rfl)
theorem dX2_writeBelieved_43 : decode cX2_writeBelieved 43 = .ok (.aload_n 0, 1) := dk_42 (dk_at dksX2_writeBelieved_1 19 rfl rfl)
theorem dX2_writeBelieved_44 : decode cX2_writeBelieved 44 = .ok (.getfield 410, 3) := dk_180 1 154 (dk_at dksX2_writeBelieved_1 20 rfl rfl)
theorem dX2_writeBelieved_47 : decode cX2_writeBelieved 47 = .ok (.ireturn, 1) := dk_172 (dk_at dksX2_writeBelieved_1 23 rfl rfl)
abbrev cX2_writeWires : ByteArray := prog_12_method_143_code
def yX2_writeWires : MethodName := ⟨RX2, "writeWires", "(I)I"⟩
def dkwX2_writeWires_4 : List UInt8 := [167, 255, 195, 42, 180, 1, 154, 172]
abbrev dktX2_writeWires_4 : List UInt8 := dkwX2_writeWires_4 ++ []
def dkwX2_writeWires_3 : List UInt8 := [160, 0, 8, 16, 120, 167, 0, 12, 16, 48, 42, 28, 3, 182, 0, 134, 96, 182, 1, 157, 132, 2, 1]
abbrev dktX2_writeWires_3 : List UInt8 := dkwX2_writeWires_3 ++ dktX2_writeWires_4
def dkwX2_writeWires_2 : List UInt8 := [154, 0, 16, 42, 180, 1, 154, 158, 0, 9, 42, 16, 32, 182, 1, 157, 42, 42, 28, 5, 182, 0, 134, 4]
abbrev dktX2_writeWires_2 : List UInt8 := dkwX2_writeWires_2 ++ dktX2_writeWires_3
def dkwX2_writeWires_1 : List UInt8 := [181, 1, 154, 16, 9, 27, 104, 61, 28, 16, 9, 27, 104, 16, 9, 96, 162, 0, 56, 28, 6, 112]
abbrev dktX2_writeWires_1 : List UInt8 := dkwX2_writeWires_1 ++ dktX2_writeWires_2
def dkwX2_writeWires_0 : List UInt8 := [42, 42, 180, 0, 56, 42, 27, 3, 3, 182, 1, 50, 182, 1, 37, 154, 0, 5, 3, 172, 42, 3]
abbrev dktX2_writeWires_0 : List UInt8 := dkwX2_writeWires_0 ++ dktX2_writeWires_1
theorem dksX2_writeWires_0 : cX2_writeWires.data.toList.drop 0 = dktX2_writeWires_0 := by decide +kernel
theorem dksX2_writeWires_1 : cX2_writeWires.data.toList.drop 22 = dktX2_writeWires_1 := dk_seg dksX2_writeWires_0 22 rfl rfl
theorem dksX2_writeWires_2 : cX2_writeWires.data.toList.drop 44 = dktX2_writeWires_2 := dk_seg dksX2_writeWires_1 22 rfl rfl
theorem dksX2_writeWires_3 : cX2_writeWires.data.toList.drop 68 = dktX2_writeWires_3 := dk_seg dksX2_writeWires_2 24 rfl rfl
theorem dksX2_writeWires_4 : cX2_writeWires.data.toList.drop 91 = dktX2_writeWires_4 := dk_seg dksX2_writeWires_3 23 rfl rfl
theorem dX2_writeWires_0 : decode cX2_writeWires 0 = .ok (.aload_n 0, 1) := dk_42 (dk_at dksX2_writeWires_0 0 rfl rfl)
theorem dX2_writeWires_1 : decode cX2_writeWires 1 = .ok (.aload_n 0, 1) := dk_42 (dk_at dksX2_writeWires_0 1 rfl rfl)
theorem dX2_writeWires_2 : decode cX2_writeWires 2 = .ok (.getfield 56, 3) := dk_180 0 56 (dk_at dksX2_writeWires_0 2 rfl rfl)
theorem dX2_writeWires_5 : decode cX2_writeWires 5 = .ok (.aload_n 0, 1) := dk_42 (dk_at dksX2_writeWires_0 5 rfl rfl)
theorem dX2_writeWires_6 : decode cX2_writeWires 6 = .ok (.iload_n 1, 1) := dk_27 (dk_at dksX2_writeWires_0 6 rfl rfl)
theorem dX2_writeWires_7 : decode cX2_writeWires 7 = .ok (.iconst 0, 1) := dk_3 (dk_at dksX2_writeWires_0 7 rfl rfl)
theorem dX2_writeWires_8 : decode cX2_writeWires 8 = .ok (.iconst 0, 1) := dk_3 (dk_at dksX2_writeWires_0 8 rfl rfl)
theorem dX2_writeWires_9 : decode cX2_writeWires 9 = .ok (.invokevirtual 306, 3) := dk_182 1 50 (dk_at dksX2_writeWires_0 9 rfl rfl)
theorem dX2_writeWires_12 : decode cX2_writeWires 12 = .ok (.invokevirtual 293, 3) := dk_182 1 37 (dk_at dksX2_writeWires_0 12 rfl rfl)
theorem dX2_writeWires_15 : decode cX2_writeWires 15 = .ok (.ifCond .ne 5, 3) := dk_154 0 5 (dk_at dksX2_writeWires_0 15 rfl rfl)
theorem dX2_writeWires_18 : decode cX2_writeWires 18 = .ok (.iconst 0, 1) := dk_3 (dk_at dksX2_writeWires_0 18 rfl rfl)
theorem dX2_writeWires_19 : decode cX2_writeWires 19 = .ok (.ireturn, 1) := dk_172 (dk_at dksX2_writeWires_0 19 rfl rfl)
theorem dX2_writeWires_20 : decode cX2_writeWires 20 = .ok (.aload_n 0, 1) := dk_42 (dk_at dksX2_writeWires_0 20 rfl rfl)
theorem dX2_writeWires_21 : decode cX2_writeWires 21 = .ok (.iconst 0, 1) := dk_3 (dk_at dksX2_writeWires_0 21 rfl rfl)
theorem dX2_writeWires_22 : decode cX2_writeWires 22 = .ok (.putfield 410, 3) := dk_181 1 154 (dk_at dksX2_writeWires_1 0 rfl rfl)
theorem dX2_writeWires_25 : decode cX2_writeWires 25 = .ok (.bipush 9, 2) := dk_16 9 (dk_at dksX2_writeWires_1 3 rfl rfl)
theorem dX2_writeWires_27 : decode cX2_writeWires 27 = .ok (.iload_n 1, 1) := dk_27 (dk_at dksX2_writeWires_1 5 rfl rfl)
theorem dX2_writeWires_28 : decode cX2_writeWires 28 = .ok (.imul, 1) := dk_104 (dk_at dksX2_writeWires_1 6 rfl rfl)
theorem dX2_writeWires_29 : decode cX2_writeWires 29 = .ok (.istore_n 2, 1) := dk_61 (dk_at dksX2_writeWires_1 7 rfl rfl)
theorem dX2_writeWires_30 : decode cX2_writeWires 30 = .ok (.iload_n 2, 1) := dk_28 (dk_at dksX2_writeWires_1 8 rfl rfl)
theorem dX2_writeWires_31 : decode cX2_writeWires 31 = .ok (.bipush 9, 2) := dk_16 9 (dk_at dksX2_writeWires_1 9 rfl rfl)
theorem dX2_writeWires_33 : decode cX2_writeWires 33 = .ok (.iload_n 1, 1) := dk_27 (dk_at dksX2_writeWires_1 11 rfl rfl)
theorem dX2_writeWires_34 : decode cX2_writeWires 34 = .ok (.imul, 1) := dk_104 (dk_at dksX2_writeWires_1 12 rfl rfl)
theorem dX2_writeWires_35 : decode cX2_writeWires 35 = .ok (.bipush 9, 2) := dk_16 9 (dk_at dksX2_writeWires_1 13 rfl rfl)
theorem dX2_writeWires_37 : decode cX2_writeWires 37 = .ok (.iadd, 1) := dk_96 (dk_at dksX2_writeWires_1 15 rfl rfl)
theorem dX2_writeWires_38 : decode cX2_writeWires 38 = .ok (.if_icmp .ge 56, 3) := dk_162 0 56 (dk_at dksX2_writeWires_1 16 rfl rfl)
theorem dX2_writeWires_41 : decode cX2_writeWires 41 = .ok (.iload_n 2, 1) := dk_28 (dk_at dksX2_writeWires_1 19 rfl rfl)
theorem dX2_writeWires_42 : decode cX2_writeWires 42 = .ok (.iconst 3, 1) := dk_6 (dk_at dksX2_writeWires_1 20 rfl rfl)
theorem dX2_writeWires_43 : decode cX2_writeWires 43 = .ok (.irem, 1) := dk_112 (dk_at dksX2_writeWires_1 21 rfl rfl)
theorem dX2_writeWires_44 : decode cX2_writeWires 44 = .ok (.ifCond .ne 16, 3) := dk_154 0 16 (dk_at dksX2_writeWires_2 0 rfl rfl)
theorem dX2_writeWires_47 : decode cX2_writeWires 47 = .ok (.aload_n 0, 1) := dk_42 (dk_at dksX2_writeWires_2 3 rfl rfl)
theorem dX2_writeWires_48 : decode cX2_writeWires 48 = .ok (.getfield 410, 3) := dk_180 1 154 (dk_at dksX2_writeWires_2 4 rfl rfl)
theorem dX2_writeWires_51 : decode cX2_writeWires 51 = .ok (.ifCond .le 9, 3) := dk_158 0 9 (dk_at dksX2_writeWires_2 7 rfl rfl)
theorem dX2_writeWires_54 : decode cX2_writeWires 54 = .ok (.aload_n 0, 1) := dk_42 (dk_at dksX2_writeWires_2 10 rfl rfl)
theorem dX2_writeWires_55 : decode cX2_writeWires 55 = .ok (.bipush 32, 2) := dk_16 32 (dk_at dksX2_writeWires_2 11 rfl rfl)
theorem dX2_writeWires_57 : decode cX2_writeWires 57 = .ok (.invokevirtual 413, 3) := dk_182 1 157 (dk_at dksX2_writeWires_2 13 rfl rfl)
theorem dX2_writeWires_60 : decode cX2_writeWires 60 = .ok (.aload_n 0, 1) := dk_42 (dk_at dksX2_writeWires_2 16 rfl rfl)
theorem dX2_writeWires_61 : decode cX2_writeWires 61 = .ok (.aload_n 0, 1) := dk_42 (dk_at dksX2_writeWires_2 17 rfl rfl)
theorem dX2_writeWires_62 : decode cX2_writeWires 62 = .ok (.iload_n 2, 1) := dk_28 (dk_at dksX2_writeWires_2 18 rfl rfl)
theorem dX2_writeWires_63 : decode cX2_writeWires 63 = .ok (.iconst 2, 1) := dk_5 (dk_at dksX2_writeWires_2 19 rfl rfl)
theorem dX2_writeWires_64 : decode cX2_writeWires 64 = .ok (.invokevirtual 134, 3) := dk_182 0 134 (dk_at dksX2_writeWires_2 20 rfl rfl)
theorem dX2_writeWires_67 : decode cX2_writeWires 67 = .ok (.iconst 1, 1) := dk_4 (dk_at dksX2_writeWires_2 23 rfl rfl)
theorem dX2_writeWires_68 : decode cX2_writeWires 68 = .ok (.if_icmp .ne 8, 3) := dk_160 0 8 (dk_at dksX2_writeWires_3 0 rfl rfl)
theorem dX2_writeWires_71 : decode cX2_writeWires 71 = .ok (.bipush 120, 2) := dk_16 120 (dk_at dksX2_writeWires_3 3 rfl rfl)
theorem dX2_writeWires_73 : decode cX2_writeWires 73 = .ok (.goto 12, 3) := dk_167 0 12 (dk_at dksX2_writeWires_3 5 rfl rfl)
theorem dX2_writeWires_76 : decode cX2_writeWires 76 = .ok (.bipush 48, 2) := dk_16 48 (dk_at dksX2_writeWires_3 8 rfl rfl)
theorem dX2_writeWires_78 : decode cX2_writeWires 78 = .ok (.aload_n 0, 1) := dk_42 (dk_at dksX2_writeWires_3 10 rfl rfl)
theorem dX2_writeWires_79 : decode cX2_writeWires 79 = .ok (.iload_n 2, 1) := dk_28 (dk_at dksX2_writeWires_3 11 rfl rfl)
theorem dX2_writeWires_80 : decode cX2_writeWires 80 = .ok (.iconst 0, 1) := dk_3 (dk_at dksX2_writeWires_3 12 rfl rfl)
theorem dX2_writeWires_81 : decode cX2_writeWires 81 = .ok (.invokevirtual 134, 3) := dk_182 0 134 (dk_at dksX2_writeWires_3 13 rfl rfl)
theorem dX2_writeWires_84 : decode cX2_writeWires 84 = .ok (.iadd, 1) := dk_96 (dk_at dksX2_writeWires_3 16 rfl rfl)
theorem dX2_writeWires_85 : decode cX2_writeWires 85 = .ok (.invokevirtual 413, 3) := dk_182 1 157 (dk_at dksX2_writeWires_3 17 rfl rfl)
theorem dX2_writeWires_88 : decode cX2_writeWires 88 = .ok (.iinc 2 1, 3) := dk_132 2 1 (dk_at dksX2_writeWires_3 20 rfl rfl)
theorem dX2_writeWires_91 : decode cX2_writeWires 91 = .ok (.goto (-61), 3) := dk_167 255 195 (dk_at dksX2_writeWires_4 0 rfl rfl)
theorem dX2_writeWires_94 : decode cX2_writeWires 94 = .ok (.aload_n 0, 1) := dk_42 (dk_at dksX2_writeWires_4 3 rfl rfl)
theorem dX2_writeWires_95 : decode cX2_writeWires 95 = .ok (.getfield 410, 3) := dk_180 1 154 (dk_at dksX2_writeWires_4 4 rfl rfl)
theorem dX2_writeWires_98 : decode cX2_writeWires 98 = .ok (.ireturn, 1) := dk_172 (dk_at dksX2_writeWires_4 7 rfl rfl)
abbrev cX2_writeLog : ByteArray := prog_12_method_145_code
def yX2_writeLog : MethodName := ⟨RX2, "writeLog", "()I"⟩
def dkwX2_writeLog_4 : List UInt8 := [167, 255, 178, 42, 180, 1, 154, 154, 0, 9, 42, 16, 45, 182, 1, 157, 42, 180, 1, 154, 172]
abbrev dktX2_writeLog_4 : List UInt8 := dkwX2_writeLog_4 ++ []
def dkwX2_writeLog_3 : List UInt8 := [182, 1, 157, 42, 42, 180, 0, 9, 17, 5, 136, 7, 27, 104, 96, 5, 96, 46, 182, 1, 163, 132, 1, 1]
abbrev dktX2_writeLog_3 : List UInt8 := dkwX2_writeLog_3 ++ dktX2_writeLog_4
def dkwX2_writeLog_2 : List UInt8 := [96, 46, 182, 1, 163, 42, 42, 180, 0, 9, 17, 5, 136, 7, 27, 104, 96, 4, 96, 46, 184, 1, 166]
abbrev dktX2_writeLog_2 : List UInt8 := dkwX2_writeLog_2 ++ dktX2_writeLog_3
def dkwX2_writeLog_1 : List UInt8 := [162, 0, 74, 27, 158, 0, 9, 42, 16, 32, 182, 1, 157, 42, 42, 180, 0, 9, 17, 5, 136, 7, 27, 104]
abbrev dktX2_writeLog_1 : List UInt8 := dkwX2_writeLog_1 ++ dktX2_writeLog_2
def dkwX2_writeLog_0 : List UInt8 := [42, 182, 1, 56, 154, 0, 5, 3, 172, 42, 3, 181, 1, 154, 3, 60, 27, 42, 180, 0, 9, 7, 46]
abbrev dktX2_writeLog_0 : List UInt8 := dkwX2_writeLog_0 ++ dktX2_writeLog_1
theorem dksX2_writeLog_0 : cX2_writeLog.data.toList.drop 0 = dktX2_writeLog_0 := by decide +kernel
theorem dksX2_writeLog_1 : cX2_writeLog.data.toList.drop 23 = dktX2_writeLog_1 := dk_seg dksX2_writeLog_0 23 rfl rfl
theorem dksX2_writeLog_2 : cX2_writeLog.data.toList.drop 47 = dktX2_writeLog_2 := dk_seg dksX2_writeLog_1 24 rfl rfl
theorem dksX2_writeLog_3 : cX2_writeLog.data.toList.drop 70 = dktX2_writeLog_3 := dk_seg dksX2_writeLog_2 23 rfl rfl
theorem dksX2_writeLog_4 : cX2_writeLog.data.toList.drop 94 = dktX2_writeLog_4 := dk_seg dksX2_writeLog_3 24 rfl rfl
theorem dX2_writeLog_0 : decode cX2_writeLog 0 = .ok (.aload_n 0, 1) := dk_42 (dk_at dksX2_writeLog_0 0 rfl rfl)
theorem dX2_writeLog_1 : decode cX2_writeLog 1 = .ok (.invokevirtual 312, 3) := dk_182 1 56 (dk_at dksX2_writeLog_0 1 rfl rfl)
theorem dX2_writeLog_4 : decode cX2_writeLog 4 = .ok (.ifCond .ne 5, 3) := dk_154 0 5 (dk_at dksX2_writeLog_0 4 rfl rfl)
theorem dX2_writeLog_7 : decode cX2_writeLog 7 = .ok (.iconst 0, 1) := dk_3 (dk_at dksX2_writeLog_0 7 rfl rfl)
theorem dX2_writeLog_8 : decode cX2_writeLog 8 = .ok (.ireturn, 1) := dk_172 (dk_at dksX2_writeLog_0 8 rfl rfl)
theorem dX2_writeLog_9 : decode cX2_writeLog 9 = .ok (.aload_n 0, 1) := dk_42 (dk_at dksX2_writeLog_0 9 rfl rfl)
theorem dX2_writeLog_10 : decode cX2_writeLog 10 = .ok (.iconst 0, 1) := dk_3 (dk_at dksX2_writeLog_0 10 rfl rfl)
theorem dX2_writeLog_11 : decode cX2_writeLog 11 = .ok (.putfield 410, 3) := dk_181 1 154 (dk_at dksX2_writeLog_0 11 rfl rfl)
theorem dX2_writeLog_14 : decode cX2_writeLog 14 = .ok (.iconst 0, 1) := dk_3 (dk_at dksX2_writeLog_0 14 rfl rfl)
theorem dX2_writeLog_15 : decode cX2_writeLog 15 = .ok (.istore_n 1, 1) := dk_60 (dk_at dksX2_writeLog_0 15 rfl rfl)
theorem dX2_writeLog_16 : decode cX2_writeLog 16 = .ok (.iload_n 1, 1) := dk_27 (dk_at dksX2_writeLog_0 16 rfl rfl)
theorem dX2_writeLog_17 : decode cX2_writeLog 17 = .ok (.aload_n 0, 1) := dk_42 (dk_at dksX2_writeLog_0 17 rfl rfl)
theorem dX2_writeLog_18 : decode cX2_writeLog 18 = .ok (.getfield 9, 3) := dk_180 0 9 (dk_at dksX2_writeLog_0 18 rfl rfl)
theorem dX2_writeLog_21 : decode cX2_writeLog 21 = .ok (.iconst 4, 1) := dk_7 (dk_at dksX2_writeLog_0 21 rfl rfl)
theorem dX2_writeLog_22 : decode cX2_writeLog 22 = .ok (.iaload, 1) := dk_46 (dk_at dksX2_writeLog_0 22 rfl rfl)
theorem dX2_writeLog_23 : decode cX2_writeLog 23 = .ok (.if_icmp .ge 74, 3) := dk_162 0 74 (dk_at dksX2_writeLog_1 0 rfl rfl)
theorem dX2_writeLog_26 : decode cX2_writeLog 26 = .ok (.iload_n 1, 1) := dk_27 (dk_at dksX2_writeLog_1 3 rfl rfl)
theorem dX2_writeLog_27 : decode cX2_writeLog 27 = .ok (.ifCond .le 9, 3) := dk_158 0 9 (dk_at dksX2_writeLog_1 4 rfl rfl)
theorem dX2_writeLog_30 : decode cX2_writeLog 30 = .ok (.aload_n 0, 1) := dk_42 (dk_at dksX2_writeLog_1 7 rfl rfl)
theorem dX2_writeLog_31 : decode cX2_writeLog 31 = .ok (.bipush 32, 2) := dk_16 32 (dk_at dksX2_writeLog_1 8 rfl rfl)
theorem dX2_writeLog_33 : decode cX2_writeLog 33 = .ok (.invokevirtual 413, 3) := dk_182 1 157 (dk_at dksX2_writeLog_1 10 rfl rfl)
theorem dX2_writeLog_36 : decode cX2_writeLog 36 = .ok (.aload_n 0, 1) := dk_42 (dk_at dksX2_writeLog_1 13 rfl rfl)
theorem dX2_writeLog_37 : decode cX2_writeLog 37 = .ok (.aload_n 0, 1) := dk_42 (dk_at dksX2_writeLog_1 14 rfl rfl)
theorem dX2_writeLog_38 : decode cX2_writeLog 38 = .ok (.getfield 9, 3) := dk_180 0 9 (dk_at dksX2_writeLog_1 15 rfl rfl)
theorem dX2_writeLog_41 : decode cX2_writeLog 41 = .ok (.sipush 1416, 3) := dk_17 5 136 (dk_at dksX2_writeLog_1 18 rfl rfl)
theorem dX2_writeLog_44 : decode cX2_writeLog 44 = .ok (.iconst 4, 1) := dk_7 (dk_at dksX2_writeLog_1 21 rfl rfl)
theorem dX2_writeLog_45 : decode cX2_writeLog 45 = .ok (.iload_n 1, 1) := dk_27 (dk_at dksX2_writeLog_1 22 rfl rfl)
theorem dX2_writeLog_46 : decode cX2_writeLog 46 = .ok (.imul, 1) := dk_104 (dk_at dksX2_writeLog_1 23 rfl rfl)
theorem dX2_writeLog_47 : decode cX2_writeLog 47 = .ok (.iadd, 1) := dk_96 (dk_at dksX2_writeLog_2 0 rfl rfl)
theorem dX2_writeLog_48 : decode cX2_writeLog 48 = .ok (.iaload, 1) := dk_46 (dk_at dksX2_writeLog_2 1 rfl rfl)
theorem dX2_writeLog_49 : decode cX2_writeLog 49 = .ok (.invokevirtual 419, 3) := dk_182 1 163 (dk_at dksX2_writeLog_2 2 rfl rfl)
theorem dX2_writeLog_52 : decode cX2_writeLog 52 = .ok (.aload_n 0, 1) := dk_42 (dk_at dksX2_writeLog_2 5 rfl rfl)
theorem dX2_writeLog_53 : decode cX2_writeLog 53 = .ok (.aload_n 0, 1) := dk_42 (dk_at dksX2_writeLog_2 6 rfl rfl)
theorem dX2_writeLog_54 : decode cX2_writeLog 54 = .ok (.getfield 9, 3) := dk_180 0 9 (dk_at dksX2_writeLog_2 7 rfl rfl)
theorem dX2_writeLog_57 : decode cX2_writeLog 57 = .ok (.sipush 1416, 3) := dk_17 5 136 (dk_at dksX2_writeLog_2 10 rfl rfl)
theorem dX2_writeLog_60 : decode cX2_writeLog 60 = .ok (.iconst 4, 1) := dk_7 (dk_at dksX2_writeLog_2 13 rfl rfl)
theorem dX2_writeLog_61 : decode cX2_writeLog 61 = .ok (.iload_n 1, 1) := dk_27 (dk_at dksX2_writeLog_2 14 rfl rfl)
theorem dX2_writeLog_62 : decode cX2_writeLog 62 = .ok (.imul, 1) := dk_104 (dk_at dksX2_writeLog_2 15 rfl rfl)
theorem dX2_writeLog_63 : decode cX2_writeLog 63 = .ok (.iadd, 1) := dk_96 (dk_at dksX2_writeLog_2 16 rfl rfl)
theorem dX2_writeLog_64 : decode cX2_writeLog 64 = .ok (.iconst 1, 1) := dk_4 (dk_at dksX2_writeLog_2 17 rfl rfl)
theorem dX2_writeLog_65 : decode cX2_writeLog 65 = .ok (.iadd, 1) := dk_96 (dk_at dksX2_writeLog_2 18 rfl rfl)
theorem dX2_writeLog_66 : decode cX2_writeLog 66 = .ok (.iaload, 1) := dk_46 (dk_at dksX2_writeLog_2 19 rfl rfl)
theorem dX2_writeLog_67 : decode cX2_writeLog 67 = .ok (.invokestatic 422, 3) := dk_184 1 166 (dk_at dksX2_writeLog_2 20 rfl rfl)
theorem dX2_writeLog_70 : decode cX2_writeLog 70 = .ok (.invokevirtual 413, 3) := dk_182 1 157 (dk_at dksX2_writeLog_3 0 rfl rfl)
theorem dX2_writeLog_73 : decode cX2_writeLog 73 = .ok (.aload_n 0, 1) := dk_42 (dk_at dksX2_writeLog_3 3 rfl rfl)
theorem dX2_writeLog_74 : decode cX2_writeLog 74 = .ok (.aload_n 0, 1) := dk_42 (dk_at dksX2_writeLog_3 4 rfl rfl)
theorem dX2_writeLog_75 : decode cX2_writeLog 75 = .ok (.getfield 9, 3) := dk_180 0 9 (dk_at dksX2_writeLog_3 5 rfl rfl)
theorem dX2_writeLog_78 : decode cX2_writeLog 78 = .ok (.sipush 1416, 3) := dk_17 5 136 (dk_at dksX2_writeLog_3 8 rfl rfl)
theorem dX2_writeLog_81 : decode cX2_writeLog 81 = .ok (.iconst 4, 1) := dk_7 (dk_at dksX2_writeLog_3 11 rfl rfl)
theorem dX2_writeLog_82 : decode cX2_writeLog 82 = .ok (.iload_n 1, 1) := dk_27 (dk_at dksX2_writeLog_3 12 rfl rfl)
theorem dX2_writeLog_83 : decode cX2_writeLog 83 = .ok (.imul, 1) := dk_104 (dk_at dksX2_writeLog_3 13 rfl rfl)
theorem dX2_writeLog_84 : decode cX2_writeLog 84 = .ok (.iadd, 1) := dk_96 (dk_at dksX2_writeLog_3 14 rfl rfl)
theorem dX2_writeLog_85 : decode cX2_writeLog 85 = .ok (.iconst 2, 1) := dk_5 (dk_at dksX2_writeLog_3 15 rfl rfl)
theorem dX2_writeLog_86 : decode cX2_writeLog 86 = .ok (.iadd, 1) := dk_96 (dk_at dksX2_writeLog_3 16 rfl rfl)
theorem dX2_writeLog_87 : decode cX2_writeLog 87 = .ok (.iaload, 1) := dk_46 (dk_at dksX2_writeLog_3 17 rfl rfl)
theorem dX2_writeLog_88 : decode cX2_writeLog 88 = .ok (.invokevirtual 419, 3) := dk_182 1 163 (dk_at dksX2_writeLog_3 18 rfl rfl)
theorem dX2_writeLog_91 : decode cX2_writeLog 91 = .ok (.iinc 1 1, 3) := dk_132 1 1 (dk_at dksX2_writeLog_3 21 rfl rfl)
theorem dX2_writeLog_94 : decode cX2_writeLog 94 = .ok (.goto (-78), 3) := dk_167 255 178 (dk_at dksX2_writeLog_4 0 rfl rfl)
theorem dX2_writeLog_97 : decode cX2_writeLog 97 = .ok (.aload_n 0, 1) := dk_42 (dk_at dksX2_writeLog_4 3 rfl rfl)
theorem dX2_writeLog_98 : decode cX2_writeLog 98 = .ok (.getfield 410, 3) := dk_180 1 154 (dk_at dksX2_writeLog_4 4 rfl rfl)
theorem dX2_writeLog_101 : decode cX2_writeLog 101 = .ok (.ifCond .ne 9, 3) := dk_154 0 9 (dk_at dksX2_writeLog_4 7 rfl rfl)
theorem dX2_writeLog_104 : decode cX2_writeLog 104 = .ok (.aload_n 0, 1) := dk_42 (dk_at dksX2_writeLog_4 10 rfl rfl)
theorem dX2_writeLog_105 : decode cX2_writeLog 105 = .ok (.bipush 45, 2) := dk_16 45 (dk_at dksX2_writeLog_4 11 rfl rfl)
theorem dX2_writeLog_107 : decode cX2_writeLog 107 = .ok (.invokevirtual 413, 3) := dk_182 1 157 (dk_at dksX2_writeLog_4 13 rfl rfl)
theorem dX2_writeLog_110 : decode cX2_writeLog 110 = .ok (.aload_n 0, 1) := dk_42 (dk_at dksX2_writeLog_4 16 rfl rfl)
theorem dX2_writeLog_111 : decode cX2_writeLog 111 = .ok (.getfield 410, 3) := dk_180 1 154 (dk_at dksX2_writeLog_4 17 rfl rfl)
theorem dX2_writeLog_114 : decode cX2_writeLog 114 = .ok (.ireturn, 1) := dk_172 (dk_at dksX2_writeLog_4 20 rfl rfl)
abbrev cX2_writesNumber : ByteArray := prog_12_method_139_code
def yX2_writesNumber : MethodName := ⟨RX2, "writesNumber", "(I)V"⟩
def dkwX2_writesNumber_1 : List UInt8 := [16, 48, 27, 28, 108, 16, 10, 112, 96, 182, 1, 157, 28, 16, 10, 108, 61, 167, 255, 234, 177]
abbrev dktX2_writesNumber_1 : List UInt8 := dkwX2_writesNumber_1 ++ []
def dkwX2_writesNumber_0 : List UInt8 := [4, 61, 27, 28, 108, 16, 9, 164, 0, 11, 28, 16, 10, 104, 61, 167, 255, 243, 28, 158, 0, 24, 42]
abbrev dktX2_writesNumber_0 : List UInt8 := dkwX2_writesNumber_0 ++ dktX2_writesNumber_1
theorem dksX2_writesNumber_0 : cX2_writesNumber.data.toList.drop 0 = dktX2_writesNumber_0 := by decide +kernel
theorem dksX2_writesNumber_1 : cX2_writesNumber.data.toList.drop 23 = dktX2_writesNumber_1 := dk_seg dksX2_writesNumber_0 23 rfl rfl
theorem dX2_writesNumber_0 : decode cX2_writesNumber 0 = .ok (.iconst 1, 1) := dk_4 (dk_at dksX2_writesNumber_0 0 rfl rfl)
theorem dX2_writesNumber_1 : decode cX2_writesNumber 1 = .ok (.istore_n 2, 1) := dk_61 (dk_at dksX2_writesNumber_0 1 rfl rfl)
theorem dX2_writesNumber_2 : decode cX2_writesNumber 2 = .ok (.iload_n 1, 1) := dk_27 (dk_at dksX2_writesNumber_0 2 rfl rfl)
theorem dX2_writesNumber_3 : decode cX2_writesNumber 3 = .ok (.iload_n 2, 1) := dk_28 (dk_at dksX2_writesNumber_0 3 rfl rfl)
theorem dX2_writesNumber_4 : decode cX2_writesNumber 4 = .ok (.idiv, 1) := dk_108 (dk_at dksX2_writesNumber_0 4 rfl rfl)
theorem dX2_writesNumber_5 : decode cX2_writesNumber 5 = .ok (.bipush 9, 2) := dk_16 9 (dk_at dksX2_writesNumber_0 5 rfl rfl)
theorem dX2_writesNumber_7 : decode cX2_writesNumber 7 = .ok (.if_icmp .le 11, 3) := dk_164 0 11 (dk_at dksX2_writesNumber_0 7 rfl rfl)
theorem dX2_writesNumber_10 : decode cX2_writesNumber 10 = .ok (.iload_n 2, 1) := dk_28 (dk_at dksX2_writesNumber_0 10 rfl rfl)
theorem dX2_writesNumber_11 : decode cX2_writesNumber 11 = .ok (.bipush 10, 2) := dk_16 10 (dk_at dksX2_writesNumber_0 11 rfl rfl)
theorem dX2_writesNumber_13 : decode cX2_writesNumber 13 = .ok (.imul, 1) := dk_104 (dk_at dksX2_writesNumber_0 13 rfl rfl)
theorem dX2_writesNumber_14 : decode cX2_writesNumber 14 = .ok (.istore_n 2, 1) := dk_61 (dk_at dksX2_writesNumber_0 14 rfl rfl)
theorem dX2_writesNumber_15 : decode cX2_writesNumber 15 = .ok (.goto (-13), 3) := dk_167 255 243 (dk_at dksX2_writesNumber_0 15 rfl rfl)
theorem dX2_writesNumber_18 : decode cX2_writesNumber 18 = .ok (.iload_n 2, 1) := dk_28 (dk_at dksX2_writesNumber_0 18 rfl rfl)
theorem dX2_writesNumber_19 : decode cX2_writesNumber 19 = .ok (.ifCond .le 24, 3) := dk_158 0 24 (dk_at dksX2_writesNumber_0 19 rfl rfl)
theorem dX2_writesNumber_22 : decode cX2_writesNumber 22 = .ok (.aload_n 0, 1) := dk_42 (dk_at dksX2_writesNumber_0 22 rfl rfl)
theorem dX2_writesNumber_23 : decode cX2_writesNumber 23 = .ok (.bipush 48, 2) := dk_16 48 (dk_at dksX2_writesNumber_1 0 rfl rfl)
theorem dX2_writesNumber_25 : decode cX2_writesNumber 25 = .ok (.iload_n 1, 1) := dk_27 (dk_at dksX2_writesNumber_1 2 rfl rfl)
theorem dX2_writesNumber_26 : decode cX2_writesNumber 26 = .ok (.iload_n 2, 1) := dk_28 (dk_at dksX2_writesNumber_1 3 rfl rfl)
theorem dX2_writesNumber_27 : decode cX2_writesNumber 27 = .ok (.idiv, 1) := dk_108 (dk_at dksX2_writesNumber_1 4 rfl rfl)
theorem dX2_writesNumber_28 : decode cX2_writesNumber 28 = .ok (.bipush 10, 2) := dk_16 10 (dk_at dksX2_writesNumber_1 5 rfl rfl)
theorem dX2_writesNumber_30 : decode cX2_writesNumber 30 = .ok (.irem, 1) := dk_112 (dk_at dksX2_writesNumber_1 7 rfl rfl)
theorem dX2_writesNumber_31 : decode cX2_writesNumber 31 = .ok (.iadd, 1) := dk_96 (dk_at dksX2_writesNumber_1 8 rfl rfl)
theorem dX2_writesNumber_32 : decode cX2_writesNumber 32 = .ok (.invokevirtual 413, 3) := dk_182 1 157 (dk_at dksX2_writesNumber_1 9 rfl rfl)
theorem dX2_writesNumber_35 : decode cX2_writesNumber 35 = .ok (.iload_n 2, 1) := dk_28 (dk_at dksX2_writesNumber_1 12 rfl rfl)
theorem dX2_writesNumber_36 : decode cX2_writesNumber 36 = .ok (.bipush 10, 2) := dk_16 10 (dk_at dksX2_writesNumber_1 13 rfl rfl)
theorem dX2_writesNumber_38 : decode cX2_writesNumber 38 = .ok (.idiv, 1) := dk_108 (dk_at dksX2_writesNumber_1 15 rfl rfl)
theorem dX2_writesNumber_39 : decode cX2_writesNumber 39 = .ok (.istore_n 2, 1) := dk_61 (dk_at dksX2_writesNumber_1 16 rfl rfl)
theorem dX2_writesNumber_40 : decode cX2_writesNumber 40 = .ok (.goto (-22), 3) := dk_167 255 234 (dk_at dksX2_writesNumber_1 17 rfl rfl)
theorem dX2_writesNumber_43 : decode cX2_writesNumber 43 = .ok (.return_, 1) := dk_177 (dk_at dksX2_writesNumber_1 20 rfl rfl)
abbrev cX2_signOf : ByteArray := prog_12_method_144_code
def yX2_signOf : MethodName := ⟨RX2, "signOf", "(I)I"⟩
def dkwX2_signOf_1 : List UInt8 := [16, 97, 167, 0, 5, 16, 114, 172]
abbrev dktX2_signOf_1 : List UInt8 := dkwX2_signOf_1 ++ []
def dkwX2_signOf_0 : List UInt8 := [26, 154, 0, 8, 16, 115, 167, 0, 25, 26, 4, 160, 0, 8, 16, 103, 167, 0, 15, 26, 5, 160, 0, 8]
abbrev dktX2_signOf_0 : List UInt8 := dkwX2_signOf_0 ++ dktX2_signOf_1
theorem dksX2_signOf_0 : cX2_signOf.data.toList.drop 0 = dktX2_signOf_0 := by decide +kernel
theorem dksX2_signOf_1 : cX2_signOf.data.toList.drop 24 = dktX2_signOf_1 := dk_seg dksX2_signOf_0 24 rfl rfl
theorem dX2_signOf_0 : decode cX2_signOf 0 = .ok (.iload_n 0, 1) := dk_26 (dk_at dksX2_signOf_0 0 rfl rfl)
theorem dX2_signOf_1 : decode cX2_signOf 1 = .ok (.ifCond .ne 8, 3) := dk_154 0 8 (dk_at dksX2_signOf_0 1 rfl rfl)
theorem dX2_signOf_4 : decode cX2_signOf 4 = .ok (.bipush 115, 2) := dk_16 115 (dk_at dksX2_signOf_0 4 rfl rfl)
theorem dX2_signOf_6 : decode cX2_signOf 6 = .ok (.goto 25, 3) := dk_167 0 25 (dk_at dksX2_signOf_0 6 rfl rfl)
theorem dX2_signOf_9 : decode cX2_signOf 9 = .ok (.iload_n 0, 1) := dk_26 (dk_at dksX2_signOf_0 9 rfl rfl)
theorem dX2_signOf_10 : decode cX2_signOf 10 = .ok (.iconst 1, 1) := dk_4 (dk_at dksX2_signOf_0 10 rfl rfl)
theorem dX2_signOf_11 : decode cX2_signOf 11 = .ok (.if_icmp .ne 8, 3) := dk_160 0 8 (dk_at dksX2_signOf_0 11 rfl rfl)
theorem dX2_signOf_14 : decode cX2_signOf 14 = .ok (.bipush 103, 2) := dk_16 103 (dk_at dksX2_signOf_0 14 rfl rfl)
theorem dX2_signOf_16 : decode cX2_signOf 16 = .ok (.goto 15, 3) := dk_167 0 15 (dk_at dksX2_signOf_0 16 rfl rfl)
theorem dX2_signOf_19 : decode cX2_signOf 19 = .ok (.iload_n 0, 1) := dk_26 (dk_at dksX2_signOf_0 19 rfl rfl)
theorem dX2_signOf_20 : decode cX2_signOf 20 = .ok (.iconst 2, 1) := dk_5 (dk_at dksX2_signOf_0 20 rfl rfl)
theorem dX2_signOf_21 : decode cX2_signOf 21 = .ok (.if_icmp .ne 8, 3) := dk_160 0 8 (dk_at dksX2_signOf_0 21 rfl rfl)
theorem dX2_signOf_24 : decode cX2_signOf 24 = .ok (.bipush 97, 2) := dk_16 97 (dk_at dksX2_signOf_1 0 rfl rfl)
theorem dX2_signOf_26 : decode cX2_signOf 26 = .ok (.goto 5, 3) := dk_167 0 5 (dk_at dksX2_signOf_1 2 rfl rfl)
theorem dX2_signOf_29 : decode cX2_signOf 29 = .ok (.bipush 114, 2) := dk_16 114 (dk_at dksX2_signOf_1 5 rfl rfl)
theorem dX2_signOf_31 : decode cX2_signOf 31 = .ok (.ireturn, 1) := dk_172 (dk_at dksX2_signOf_1 7 rfl rfl)
abbrev cX2_textByte : ByteArray := prog_12_method_146_code
def yX2_textByte : MethodName := ⟨RX2, "textByte", "(I)I"⟩
def dkwX2_textByte_1 : List UInt8 := [27, 51, 167, 0, 4, 3, 172]
abbrev dktX2_textByte_1 : List UInt8 := dkwX2_textByte_1 ++ []
def dkwX2_textByte_0 : List UInt8 := [42, 27, 3, 42, 180, 1, 154, 4, 100, 184, 0, 77, 4, 4, 182, 0, 52, 153, 0, 12, 42, 180, 0, 40]
abbrev dktX2_textByte_0 : List UInt8 := dkwX2_textByte_0 ++ dktX2_textByte_1
theorem dksX2_textByte_0 : cX2_textByte.data.toList.drop 0 = dktX2_textByte_0 := by decide +kernel
theorem dksX2_textByte_1 : cX2_textByte.data.toList.drop 24 = dktX2_textByte_1 := dk_seg dksX2_textByte_0 24 rfl rfl
theorem dX2_textByte_0 : decode cX2_textByte 0 = .ok (.aload_n 0, 1) := dk_42 (dk_at dksX2_textByte_0 0 rfl rfl)
theorem dX2_textByte_1 : decode cX2_textByte 1 = .ok (.iload_n 1, 1) := dk_27 (dk_at dksX2_textByte_0 1 rfl rfl)
theorem dX2_textByte_2 : decode cX2_textByte 2 = .ok (.iconst 0, 1) := dk_3 (dk_at dksX2_textByte_0 2 rfl rfl)
theorem dX2_textByte_3 : decode cX2_textByte 3 = .ok (.aload_n 0, 1) := dk_42 (dk_at dksX2_textByte_0 3 rfl rfl)
theorem dX2_textByte_4 : decode cX2_textByte 4 = .ok (.getfield 410, 3) := dk_180 1 154 (dk_at dksX2_textByte_0 4 rfl rfl)
theorem dX2_textByte_7 : decode cX2_textByte 7 = .ok (.iconst 1, 1) := dk_4 (dk_at dksX2_textByte_0 7 rfl rfl)
theorem dX2_textByte_8 : decode cX2_textByte 8 = .ok (.isub, 1) := dk_100 (dk_at dksX2_textByte_0 8 rfl rfl)
theorem dX2_textByte_9 : decode cX2_textByte 9 = .ok (.invokestatic 77, 3) := dk_184 0 77 (dk_at dksX2_textByte_0 9 rfl rfl)
theorem dX2_textByte_12 : decode cX2_textByte 12 = .ok (.iconst 1, 1) := dk_4 (dk_at dksX2_textByte_0 12 rfl rfl)
theorem dX2_textByte_13 : decode cX2_textByte 13 = .ok (.iconst 1, 1) := dk_4 (dk_at dksX2_textByte_0 13 rfl rfl)
theorem dX2_textByte_14 : decode cX2_textByte 14 = .ok (.invokevirtual 52, 3) := dk_182 0 52 (dk_at dksX2_textByte_0 14 rfl rfl)
theorem dX2_textByte_17 : decode cX2_textByte 17 = .ok (.ifCond .eq 12, 3) := dk_153 0 12 (dk_at dksX2_textByte_0 17 rfl rfl)
theorem dX2_textByte_20 : decode cX2_textByte 20 = .ok (.aload_n 0, 1) := dk_42 (dk_at dksX2_textByte_0 20 rfl rfl)
theorem dX2_textByte_21 : decode cX2_textByte 21 = .ok (.getfield 40, 3) := dk_180 0 40 (dk_at dksX2_textByte_0 21 rfl rfl)
theorem dX2_textByte_24 : decode cX2_textByte 24 = .ok (.iload_n 1, 1) := dk_27 (dk_at dksX2_textByte_1 0 rfl rfl)
theorem dX2_textByte_25 : decode cX2_textByte 25 = .ok (.baload, 1) := dk_51 (dk_at dksX2_textByte_1 1 rfl rfl)
theorem dX2_textByte_26 : decode cX2_textByte 26 = .ok (.goto 4, 3) := dk_167 0 4 (dk_at dksX2_textByte_1 2 rfl rfl)
theorem dX2_textByte_29 : decode cX2_textByte 29 = .ok (.iconst 0, 1) := dk_3 (dk_at dksX2_textByte_1 5 rfl rfl)
theorem dX2_textByte_30 : decode cX2_textByte 30 = .ok (.ireturn, 1) := dk_172 (dk_at dksX2_textByte_1 6 rfl rfl)
abbrev cX2_send : ByteArray := prog_12_method_149_code
def yX2_send : MethodName := ⟨RX2, "send", "(II)I"⟩
def dkwX2_send_4 : List UInt8 := [16, 10, 108, 54, 5, 132, 6, 255, 167, 255, 228, 42, 3, 21, 4, 182, 0, 188, 21, 4, 172]
abbrev dktX2_send_4 : List UInt8 := dkwX2_send_4 ++ []
def dkwX2_send_3 : List UInt8 := [4, 100, 54, 6, 21, 6, 155, 0, 29, 42, 21, 4, 21, 6, 21, 5, 16, 10, 112, 182, 0, 185, 21, 5]
abbrev dktX2_send_3 : List UInt8 := dkwX2_send_3 ++ dktX2_send_4
def dkwX2_send_2 : List UInt8 := [3, 182, 1, 37, 154, 0, 5, 3, 172, 42, 182, 1, 172, 42, 28, 182, 0, 181, 54, 4, 27, 54, 5, 28]
abbrev dktX2_send_2 : List UInt8 := dkwX2_send_2 ++ dktX2_send_3
def dkwX2_send_1 : List UInt8 := [42, 42, 180, 0, 56, 29, 153, 0, 18, 42, 180, 0, 9, 6, 46, 16, 6, 162, 0, 7, 4, 167, 0, 4]
abbrev dktX2_send_1 : List UInt8 := dkwX2_send_1 ++ dktX2_send_2
def dkwX2_send_0 : List UInt8 := [28, 4, 16, 9, 184, 0, 77, 153, 0, 15, 27, 28, 184, 1, 169, 153, 0, 7, 4, 167, 0, 4, 3, 62]
abbrev dktX2_send_0 : List UInt8 := dkwX2_send_0 ++ dktX2_send_1
theorem dksX2_send_0 : cX2_send.data.toList.drop 0 = dktX2_send_0 := by decide +kernel
theorem dksX2_send_1 : cX2_send.data.toList.drop 24 = dktX2_send_1 := dk_seg dksX2_send_0 24 rfl rfl
theorem dksX2_send_2 : cX2_send.data.toList.drop 48 = dktX2_send_2 := dk_seg dksX2_send_1 24 rfl rfl
theorem dksX2_send_3 : cX2_send.data.toList.drop 72 = dktX2_send_3 := dk_seg dksX2_send_2 24 rfl rfl
theorem dksX2_send_4 : cX2_send.data.toList.drop 96 = dktX2_send_4 := dk_seg dksX2_send_3 24 rfl rfl
theorem dX2_send_0 : decode cX2_send 0 = .ok (.iload_n 2, 1) := dk_28 (dk_at dksX2_send_0 0 rfl rfl)
theorem dX2_send_1 : decode cX2_send 1 = .ok (.iconst 1, 1) := dk_4 (dk_at dksX2_send_0 1 rfl rfl)
theorem dX2_send_2 : decode cX2_send 2 = .ok (.bipush 9, 2) := dk_16 9 (dk_at dksX2_send_0 2 rfl rfl)
theorem dX2_send_4 : decode cX2_send 4 = .ok (.invokestatic 77, 3) := dk_184 0 77 (dk_at dksX2_send_0 4 rfl rfl)
theorem dX2_send_7 : decode cX2_send 7 = .ok (.ifCond .eq 15, 3) := dk_153 0 15 (dk_at dksX2_send_0 7 rfl rfl)
theorem dX2_send_10 : decode cX2_send 10 = .ok (.iload_n 1, 1) := dk_27 (dk_at dksX2_send_0 10 rfl rfl)
theorem dX2_send_11 : decode cX2_send 11 = .ok (.iload_n 2, 1) := dk_28 (dk_at dksX2_send_0 11 rfl rfl)
theorem dX2_send_12 : decode cX2_send 12 = .ok (.invokestatic 425, 3) := dk_184 1 169 (dk_at dksX2_send_0 12 rfl rfl)
theorem dX2_send_15 : decode cX2_send 15 = .ok (.ifCond .eq 7, 3) := dk_153 0 7 (dk_at dksX2_send_0 15 rfl rfl)
theorem dX2_send_18 : decode cX2_send 18 = .ok (.iconst 1, 1) := dk_4 (dk_at dksX2_send_0 18 rfl rfl)
theorem dX2_send_19 : decode cX2_send 19 = .ok (.goto 4, 3) := dk_167 0 4 (dk_at dksX2_send_0 19 rfl rfl)
theorem dX2_send_22 : decode cX2_send 22 = .ok (.iconst 0, 1) := dk_3 (dk_at dksX2_send_0 22 rfl rfl)
theorem dX2_send_23 : decode cX2_send 23 = .ok (.istore_n 3, 1) := dk_62 (dk_at dksX2_send_0 23 rfl rfl)
theorem dX2_send_24 : decode cX2_send 24 = .ok (.aload_n 0, 1) := dk_42 (dk_at dksX2_send_1 0 rfl rfl)
theorem dX2_send_25 : decode cX2_send 25 = .ok (.aload_n 0, 1) := dk_42 (dk_at dksX2_send_1 1 rfl rfl)
theorem dX2_send_26 : decode cX2_send 26 = .ok (.getfield 56, 3) := dk_180 0 56 (dk_at dksX2_send_1 2 rfl rfl)
theorem dX2_send_29 : decode cX2_send 29 = .ok (.iload_n 3, 1) := dk_29 (dk_at dksX2_send_1 5 rfl rfl)
theorem dX2_send_30 : decode cX2_send 30 = .ok (.ifCond .eq 18, 3) := dk_153 0 18 (dk_at dksX2_send_1 6 rfl rfl)
theorem dX2_send_33 : decode cX2_send 33 = .ok (.aload_n 0, 1) := dk_42 (dk_at dksX2_send_1 9 rfl rfl)
theorem dX2_send_34 : decode cX2_send 34 = .ok (.getfield 9, 3) := dk_180 0 9 (dk_at dksX2_send_1 10 rfl rfl)
theorem dX2_send_37 : decode cX2_send 37 = .ok (.iconst 3, 1) := dk_6 (dk_at dksX2_send_1 13 rfl rfl)
theorem dX2_send_38 : decode cX2_send 38 = .ok (.iaload, 1) := dk_46 (dk_at dksX2_send_1 14 rfl rfl)
theorem dX2_send_39 : decode cX2_send 39 = .ok (.bipush 6, 2) := dk_16 6 (dk_at dksX2_send_1 15 rfl rfl)
theorem dX2_send_41 : decode cX2_send 41 = .ok (.if_icmp .ge 7, 3) := dk_162 0 7 (dk_at dksX2_send_1 17 rfl rfl)
theorem dX2_send_44 : decode cX2_send 44 = .ok (.iconst 1, 1) := dk_4 (dk_at dksX2_send_1 20 rfl rfl)
theorem dX2_send_45 : decode cX2_send 45 = .ok (.goto 4, 3) := dk_167 0 4 (dk_at dksX2_send_1 21 rfl rfl)
theorem dX2_send_48 : decode cX2_send 48 = .ok (.iconst 0, 1) := dk_3 (dk_at dksX2_send_2 0 rfl rfl)
theorem dX2_send_49 : decode cX2_send 49 = .ok (.invokevirtual 293, 3) := dk_182 1 37 (dk_at dksX2_send_2 1 rfl rfl)
theorem dX2_send_52 : decode cX2_send 52 = .ok (.ifCond .ne 5, 3) := dk_154 0 5 (dk_at dksX2_send_2 4 rfl rfl)
theorem dX2_send_55 : decode cX2_send 55 = .ok (.iconst 0, 1) := dk_3 (dk_at dksX2_send_2 7 rfl rfl)
theorem dX2_send_56 : decode cX2_send 56 = .ok (.ireturn, 1) := dk_172 (dk_at dksX2_send_2 8 rfl rfl)
theorem dX2_send_57 : decode cX2_send 57 = .ok (.aload_n 0, 1) := dk_42 (dk_at dksX2_send_2 9 rfl rfl)
theorem dX2_send_58 : decode cX2_send 58 = .ok (.invokevirtual 428, 3) := dk_182 1 172 (dk_at dksX2_send_2 10 rfl rfl)
theorem dX2_send_61 : decode cX2_send 61 = .ok (.aload_n 0, 1) := dk_42 (dk_at dksX2_send_2 13 rfl rfl)
theorem dX2_send_62 : decode cX2_send 62 = .ok (.iload_n 2, 1) := dk_28 (dk_at dksX2_send_2 14 rfl rfl)
theorem dX2_send_63 : decode cX2_send 63 = .ok (.invokevirtual 181, 3) := dk_182 0 181 (dk_at dksX2_send_2 15 rfl rfl)
theorem dX2_send_66 : decode cX2_send 66 = .ok (.istore 4, 2) := dk_54 4 (dk_at dksX2_send_2 18 rfl rfl)
theorem dX2_send_68 : decode cX2_send 68 = .ok (.iload_n 1, 1) := dk_27 (dk_at dksX2_send_2 20 rfl rfl)
theorem dX2_send_69 : decode cX2_send 69 = .ok (.istore 5, 2) := dk_54 5 (dk_at dksX2_send_2 21 rfl rfl)
theorem dX2_send_71 : decode cX2_send 71 = .ok (.iload_n 2, 1) := dk_28 (dk_at dksX2_send_2 23 rfl rfl)
theorem dX2_send_72 : decode cX2_send 72 = .ok (.iconst 1, 1) := dk_4 (dk_at dksX2_send_3 0 rfl rfl)
theorem dX2_send_73 : decode cX2_send 73 = .ok (.isub, 1) := dk_100 (dk_at dksX2_send_3 1 rfl rfl)
theorem dX2_send_74 : decode cX2_send 74 = .ok (.istore 6, 2) := dk_54 6 (dk_at dksX2_send_3 2 rfl rfl)
theorem dX2_send_76 : decode cX2_send 76 = .ok (.iload 6, 2) := dk_21 6 (dk_at dksX2_send_3 4 rfl rfl)
theorem dX2_send_78 : decode cX2_send 78 = .ok (.ifCond .lt 29, 3) := dk_155 0 29 (dk_at dksX2_send_3 6 rfl rfl)
theorem dX2_send_81 : decode cX2_send 81 = .ok (.aload_n 0, 1) := dk_42 (dk_at dksX2_send_3 9 rfl rfl)
theorem dX2_send_82 : decode cX2_send 82 = .ok (.iload 4, 2) := dk_21 4 (dk_at dksX2_send_3 10 rfl rfl)
theorem dX2_send_84 : decode cX2_send 84 = .ok (.iload 6, 2) := dk_21 6 (dk_at dksX2_send_3 12 rfl rfl)
theorem dX2_send_86 : decode cX2_send 86 = .ok (.iload 5, 2) := dk_21 5 (dk_at dksX2_send_3 14 rfl rfl)
theorem dX2_send_88 : decode cX2_send 88 = .ok (.bipush 10, 2) := dk_16 10 (dk_at dksX2_send_3 16 rfl rfl)
theorem dX2_send_90 : decode cX2_send 90 = .ok (.irem, 1) := dk_112 (dk_at dksX2_send_3 18 rfl rfl)
theorem dX2_send_91 : decode cX2_send 91 = .ok (.invokevirtual 185, 3) := dk_182 0 185 (dk_at dksX2_send_3 19 rfl rfl)
theorem dX2_send_94 : decode cX2_send 94 = .ok (.iload 5, 2) := dk_21 5 (dk_at dksX2_send_3 22 rfl rfl)
theorem dX2_send_96 : decode cX2_send 96 = .ok (.bipush 10, 2) := dk_16 10 (dk_at dksX2_send_4 0 rfl rfl)
theorem dX2_send_98 : decode cX2_send 98 = .ok (.idiv, 1) := dk_108 (dk_at dksX2_send_4 2 rfl rfl)
theorem dX2_send_99 : decode cX2_send 99 = .ok (.istore 5, 2) := dk_54 5 (dk_at dksX2_send_4 3 rfl rfl)
theorem dX2_send_101 : decode cX2_send 101 = .ok (.iinc 6 (-1), 3) := dk_132 6 255 (dk_at dksX2_send_4 5 rfl rfl)
theorem dX2_send_104 : decode cX2_send 104 = .ok (.goto (-28), 3) := dk_167 255 228 (dk_at dksX2_send_4 8 rfl rfl)
theorem dX2_send_107 : decode cX2_send 107 = .ok (.aload_n 0, 1) := dk_42 (dk_at dksX2_send_4 11 rfl rfl)
theorem dX2_send_108 : decode cX2_send 108 = .ok (.iconst 0, 1) := dk_3 (dk_at dksX2_send_4 12 rfl rfl)
theorem dX2_send_109 : decode cX2_send 109 = .ok (.iload 4, 2) := dk_21 4 (dk_at dksX2_send_4 13 rfl rfl)
theorem dX2_send_111 : decode cX2_send 111 = .ok (.invokevirtual 188, 3) := dk_182 0 188 (dk_at dksX2_send_4 15 rfl rfl)
theorem dX2_send_114 : decode cX2_send 114 = .ok (.iload 4, 2) := dk_21 4 (dk_at dksX2_send_4 18 rfl rfl)
theorem dX2_send_116 : decode cX2_send 116 = .ok (.ireturn, 1) := dk_172 (dk_at dksX2_send_4 20 rfl rfl)
abbrev cX2_areDigits : ByteArray := prog_12_method_148_code
def yX2_areDigits : MethodName := ⟨RX2, "areDigits", "(II)Z"⟩
def dkwX2_areDigits_1 : List UInt8 := [28, 154, 0, 7, 4, 167, 0, 4, 3, 172]
abbrev dktX2_areDigits_1 : List UInt8 := dkwX2_areDigits_1 ++ []
def dkwX2_areDigits_0 : List UInt8 := [26, 61, 3, 62, 29, 27, 162, 0, 14, 28, 16, 10, 108, 61, 132, 3, 1, 167, 255, 243, 26, 155, 0, 11]
abbrev dktX2_areDigits_0 : List UInt8 := dkwX2_areDigits_0 ++ dktX2_areDigits_1
theorem dksX2_areDigits_0 : cX2_areDigits.data.toList.drop 0 = dktX2_areDigits_0 := by decide +kernel
theorem dksX2_areDigits_1 : cX2_areDigits.data.toList.drop 24 = dktX2_areDigits_1 := dk_seg dksX2_areDigits_0 24 rfl rfl
theorem dX2_areDigits_0 : decode cX2_areDigits 0 = .ok (.iload_n 0, 1) := dk_26 (dk_at dksX2_areDigits_0 0 rfl rfl)
theorem dX2_areDigits_1 : decode cX2_areDigits 1 = .ok (.istore_n 2, 1) := dk_61 (dk_at dksX2_areDigits_0 1 rfl rfl)
theorem dX2_areDigits_2 : decode cX2_areDigits 2 = .ok (.iconst 0, 1) := dk_3 (dk_at dksX2_areDigits_0 2 rfl rfl)
theorem dX2_areDigits_3 : decode cX2_areDigits 3 = .ok (.istore_n 3, 1) := dk_62 (dk_at dksX2_areDigits_0 3 rfl rfl)
theorem dX2_areDigits_4 : decode cX2_areDigits 4 = .ok (.iload_n 3, 1) := dk_29 (dk_at dksX2_areDigits_0 4 rfl rfl)
theorem dX2_areDigits_5 : decode cX2_areDigits 5 = .ok (.iload_n 1, 1) := dk_27 (dk_at dksX2_areDigits_0 5 rfl rfl)
theorem dX2_areDigits_6 : decode cX2_areDigits 6 = .ok (.if_icmp .ge 14, 3) := dk_162 0 14 (dk_at dksX2_areDigits_0 6 rfl rfl)
theorem dX2_areDigits_9 : decode cX2_areDigits 9 = .ok (.iload_n 2, 1) := dk_28 (dk_at dksX2_areDigits_0 9 rfl rfl)
theorem dX2_areDigits_10 : decode cX2_areDigits 10 = .ok (.bipush 10, 2) := dk_16 10 (dk_at dksX2_areDigits_0 10 rfl rfl)
theorem dX2_areDigits_12 : decode cX2_areDigits 12 = .ok (.idiv, 1) := dk_108 (dk_at dksX2_areDigits_0 12 rfl rfl)
theorem dX2_areDigits_13 : decode cX2_areDigits 13 = .ok (.istore_n 2, 1) := dk_61 (dk_at dksX2_areDigits_0 13 rfl rfl)
theorem dX2_areDigits_14 : decode cX2_areDigits 14 = .ok (.iinc 3 1, 3) := dk_132 3 1 (dk_at dksX2_areDigits_0 14 rfl rfl)
theorem dX2_areDigits_17 : decode cX2_areDigits 17 = .ok (.goto (-13), 3) := dk_167 255 243 (dk_at dksX2_areDigits_0 17 rfl rfl)
theorem dX2_areDigits_20 : decode cX2_areDigits 20 = .ok (.iload_n 0, 1) := dk_26 (dk_at dksX2_areDigits_0 20 rfl rfl)
theorem dX2_areDigits_21 : decode cX2_areDigits 21 = .ok (.ifCond .lt 11, 3) := dk_155 0 11 (dk_at dksX2_areDigits_0 21 rfl rfl)
theorem dX2_areDigits_24 : decode cX2_areDigits 24 = .ok (.iload_n 2, 1) := dk_28 (dk_at dksX2_areDigits_1 0 rfl rfl)
theorem dX2_areDigits_25 : decode cX2_areDigits 25 = .ok (.ifCond .ne 7, 3) := dk_154 0 7 (dk_at dksX2_areDigits_1 1 rfl rfl)
theorem dX2_areDigits_28 : decode cX2_areDigits 28 = .ok (.iconst 1, 1) := dk_4 (dk_at dksX2_areDigits_1 4 rfl rfl)
theorem dX2_areDigits_29 : decode cX2_areDigits 29 = .ok (.goto 4, 3) := dk_167 0 4 (dk_at dksX2_areDigits_1 5 rfl rfl)
theorem dX2_areDigits_32 : decode cX2_areDigits 32 = .ok (.iconst 0, 1) := dk_3 (dk_at dksX2_areDigits_1 8 rfl rfl)
theorem dX2_areDigits_33 : decode cX2_areDigits 33 = .ok (.ireturn, 1) := dk_172 (dk_at dksX2_areDigits_1 9 rfl rfl)
abbrev cX2_remembers : ByteArray := prog_12_method_147_code
def yX2_remembers : MethodName := ⟨RX2, "remembers", "()V"⟩
def dkwX2_remembers_3 : List UInt8 := [89, 180, 0, 229, 4, 96, 181, 0, 229, 177]
abbrev dktX2_remembers_3 : List UInt8 := dkwX2_remembers_3 ++ []
def dkwX2_remembers_2 : List UInt8 := [181, 0, 229, 42, 180, 0, 9, 3, 42, 180, 0, 16, 42, 180, 0, 229, 17, 6, 40, 104, 184, 0, 60, 42]
abbrev dktX2_remembers_2 : List UInt8 := dkwX2_remembers_2 ++ dktX2_remembers_3
def dkwX2_remembers_1 : List UInt8 := [180, 0, 16, 27, 17, 6, 40, 96, 46, 79, 132, 1, 1, 167, 255, 230, 42, 89, 180, 0, 229, 4, 100]
abbrev dktX2_remembers_1 : List UInt8 := dkwX2_remembers_1 ++ dktX2_remembers_2
def dkwX2_remembers_0 : List UInt8 := [42, 180, 0, 229, 16, 8, 160, 0, 44, 3, 60, 27, 17, 43, 24, 162, 0, 25, 42, 180, 0, 16, 27, 42]
abbrev dktX2_remembers_0 : List UInt8 := dkwX2_remembers_0 ++ dktX2_remembers_1
theorem dksX2_remembers_0 : cX2_remembers.data.toList.drop 0 = dktX2_remembers_0 := by decide +kernel
theorem dksX2_remembers_1 : cX2_remembers.data.toList.drop 24 = dktX2_remembers_1 := dk_seg dksX2_remembers_0 24 rfl rfl
theorem dksX2_remembers_2 : cX2_remembers.data.toList.drop 47 = dktX2_remembers_2 := dk_seg dksX2_remembers_1 23 rfl rfl
theorem dksX2_remembers_3 : cX2_remembers.data.toList.drop 71 = dktX2_remembers_3 := dk_seg dksX2_remembers_2 24 rfl rfl
theorem dX2_remembers_0 : decode cX2_remembers 0 = .ok (.aload_n 0, 1) := dk_42 (dk_at dksX2_remembers_0 0 rfl rfl)
theorem dX2_remembers_1 : decode cX2_remembers 1 = .ok (.getfield 229, 3) := dk_180 0 229 (dk_at dksX2_remembers_0 1 rfl rfl)
theorem dX2_remembers_4 : decode cX2_remembers 4 = .ok (.bipush 8, 2) := dk_16 8 (dk_at dksX2_remembers_0 4 rfl rfl)
theorem dX2_remembers_6 : decode cX2_remembers 6 = .ok (.if_icmp .ne 44, 3) := dk_160 0 44 (dk_at dksX2_remembers_0 6 rfl rfl)
theorem dX2_remembers_9 : decode cX2_remembers 9 = .ok (.iconst 0, 1) := dk_3 (dk_at dksX2_remembers_0 9 rfl rfl)
theorem dX2_remembers_10 : decode cX2_remembers 10 = .ok (.istore_n 1, 1) := dk_60 (dk_at dksX2_remembers_0 10 rfl rfl)
theorem dX2_remembers_11 : decode cX2_remembers 11 = .ok (.iload_n 1, 1) := dk_27 (dk_at dksX2_remembers_0 11 rfl rfl)
theorem dX2_remembers_12 : decode cX2_remembers 12 = .ok (.sipush 11032, 3) := dk_17 43 24 (dk_at dksX2_remembers_0 12 rfl rfl)
theorem dX2_remembers_15 : decode cX2_remembers 15 = .ok (.if_icmp .ge 25, 3) := dk_162 0 25 (dk_at dksX2_remembers_0 15 rfl rfl)
theorem dX2_remembers_18 : decode cX2_remembers 18 = .ok (.aload_n 0, 1) := dk_42 (dk_at dksX2_remembers_0 18 rfl rfl)
theorem dX2_remembers_19 : decode cX2_remembers 19 = .ok (.getfield 16, 3) := dk_180 0 16 (dk_at dksX2_remembers_0 19 rfl rfl)
theorem dX2_remembers_22 : decode cX2_remembers 22 = .ok (.iload_n 1, 1) := dk_27 (dk_at dksX2_remembers_0 22 rfl rfl)
theorem dX2_remembers_23 : decode cX2_remembers 23 = .ok (.aload_n 0, 1) := dk_42 (dk_at dksX2_remembers_0 23 rfl rfl)
theorem dX2_remembers_24 : decode cX2_remembers 24 = .ok (.getfield 16, 3) := dk_180 0 16 (dk_at dksX2_remembers_1 0 rfl rfl)
theorem dX2_remembers_27 : decode cX2_remembers 27 = .ok (.iload_n 1, 1) := dk_27 (dk_at dksX2_remembers_1 3 rfl rfl)
theorem dX2_remembers_28 : decode cX2_remembers 28 = .ok (.sipush 1576, 3) := dk_17 6 40 (dk_at dksX2_remembers_1 4 rfl rfl)
theorem dX2_remembers_31 : decode cX2_remembers 31 = .ok (.iadd, 1) := dk_96 (dk_at dksX2_remembers_1 7 rfl rfl)
theorem dX2_remembers_32 : decode cX2_remembers 32 = .ok (.iaload, 1) := dk_46 (dk_at dksX2_remembers_1 8 rfl rfl)
theorem dX2_remembers_33 : decode cX2_remembers 33 = .ok (.iastore, 1) := dk_79 (dk_at dksX2_remembers_1 9 rfl rfl)
theorem dX2_remembers_34 : decode cX2_remembers 34 = .ok (.iinc 1 1, 3) := dk_132 1 1 (dk_at dksX2_remembers_1 10 rfl rfl)
theorem dX2_remembers_37 : decode cX2_remembers 37 = .ok (.goto (-26), 3) := dk_167 255 230 (dk_at dksX2_remembers_1 13 rfl rfl)
theorem dX2_remembers_40 : decode cX2_remembers 40 = .ok (.aload_n 0, 1) := dk_42 (dk_at dksX2_remembers_1 16 rfl rfl)
theorem dX2_remembers_41 : decode cX2_remembers 41 = .ok (.dup, 1) := dk_89 (dk_at dksX2_remembers_1 17 rfl rfl)
theorem dX2_remembers_42 : decode cX2_remembers 42 = .ok (.getfield 229, 3) := dk_180 0 229 (dk_at dksX2_remembers_1 18 rfl rfl)
theorem dX2_remembers_45 : decode cX2_remembers 45 = .ok (.iconst 1, 1) := dk_4 (dk_at dksX2_remembers_1 21 rfl rfl)
theorem dX2_remembers_46 : decode cX2_remembers 46 = .ok (.isub, 1) := dk_100 (dk_at dksX2_remembers_1 22 rfl rfl)
theorem dX2_remembers_47 : decode cX2_remembers 47 = .ok (.putfield 229, 3) := dk_181 0 229 (dk_at dksX2_remembers_2 0 rfl rfl)
theorem dX2_remembers_50 : decode cX2_remembers 50 = .ok (.aload_n 0, 1) := dk_42 (dk_at dksX2_remembers_2 3 rfl rfl)
theorem dX2_remembers_51 : decode cX2_remembers 51 = .ok (.getfield 9, 3) := dk_180 0 9 (dk_at dksX2_remembers_2 4 rfl rfl)
theorem dX2_remembers_54 : decode cX2_remembers 54 = .ok (.iconst 0, 1) := dk_3 (dk_at dksX2_remembers_2 7 rfl rfl)
theorem dX2_remembers_55 : decode cX2_remembers 55 = .ok (.aload_n 0, 1) := dk_42 (dk_at dksX2_remembers_2 8 rfl rfl)
theorem dX2_remembers_56 : decode cX2_remembers 56 = .ok (.getfield 16, 3) := dk_180 0 16 (dk_at dksX2_remembers_2 9 rfl rfl)
theorem dX2_remembers_59 : decode cX2_remembers 59 = .ok (.aload_n 0, 1) := dk_42 (dk_at dksX2_remembers_2 12 rfl rfl)
theorem dX2_remembers_60 : decode cX2_remembers 60 = .ok (.getfield 229, 3) := dk_180 0 229 (dk_at dksX2_remembers_2 13 rfl rfl)
theorem dX2_remembers_63 : decode cX2_remembers 63 = .ok (.sipush 1576, 3) := dk_17 6 40 (dk_at dksX2_remembers_2 16 rfl rfl)
theorem dX2_remembers_66 : decode cX2_remembers 66 = .ok (.imul, 1) := dk_104 (dk_at dksX2_remembers_2 19 rfl rfl)
theorem dX2_remembers_67 : decode cX2_remembers 67 = .ok (.invokestatic 60, 3) := dk_184 0 60 (dk_at dksX2_remembers_2 20 rfl rfl)
theorem dX2_remembers_70 : decode cX2_remembers 70 = .ok (.aload_n 0, 1) := dk_42 (dk_at dksX2_remembers_2 23 rfl rfl)
theorem dX2_remembers_71 : decode cX2_remembers 71 = .ok (.dup, 1) := dk_89 (dk_at dksX2_remembers_3 0 rfl rfl)
theorem dX2_remembers_72 : decode cX2_remembers 72 = .ok (.getfield 229, 3) := dk_180 0 229 (dk_at dksX2_remembers_3 1 rfl rfl)
theorem dX2_remembers_75 : decode cX2_remembers 75 = .ok (.iconst 1, 1) := dk_4 (dk_at dksX2_remembers_3 4 rfl rfl)
theorem dX2_remembers_76 : decode cX2_remembers 76 = .ok (.iadd, 1) := dk_96 (dk_at dksX2_remembers_3 5 rfl rfl)
theorem dX2_remembers_77 : decode cX2_remembers 77 = .ok (.putfield 229, 3) := dk_181 0 229 (dk_at dksX2_remembers_3 6 rfl rfl)
theorem dX2_remembers_80 : decode cX2_remembers 80 = .ok (.return_, 1) := dk_177 (dk_at dksX2_remembers_3 9 rfl rfl)
abbrev cX2_sendSame : ByteArray := prog_12_method_151_code
def yX2_sendSame : MethodName := ⟨RX2, "sendSame", "(II)I"⟩
def dkwX2_sendSame_2 : List UInt8 := [182, 1, 172, 42, 27, 28, 182, 0, 140, 172]
abbrev dktX2_sendSame_2 : List UInt8 := dkwX2_sendSame_2 ++ []
def dkwX2_sendSame_1 : List UInt8 := [180, 0, 9, 6, 46, 16, 6, 162, 0, 7, 4, 167, 0, 4, 3, 182, 1, 37, 154, 0, 5, 3, 172, 42]
abbrev dktX2_sendSame_1 : List UInt8 := dkwX2_sendSame_1 ++ dktX2_sendSame_2
def dkwX2_sendSame_0 : List UInt8 := [42, 42, 180, 0, 56, 27, 184, 1, 53, 153, 0, 28, 28, 4, 16, 12, 184, 0, 77, 153, 0, 18, 42]
abbrev dktX2_sendSame_0 : List UInt8 := dkwX2_sendSame_0 ++ dktX2_sendSame_1
theorem dksX2_sendSame_0 : cX2_sendSame.data.toList.drop 0 = dktX2_sendSame_0 := by decide +kernel
theorem dksX2_sendSame_1 : cX2_sendSame.data.toList.drop 23 = dktX2_sendSame_1 := dk_seg dksX2_sendSame_0 23 rfl rfl
theorem dksX2_sendSame_2 : cX2_sendSame.data.toList.drop 47 = dktX2_sendSame_2 := dk_seg dksX2_sendSame_1 24 rfl rfl
theorem dX2_sendSame_0 : decode cX2_sendSame 0 = .ok (.aload_n 0, 1) := dk_42 (dk_at dksX2_sendSame_0 0 rfl rfl)
theorem dX2_sendSame_1 : decode cX2_sendSame 1 = .ok (.aload_n 0, 1) := dk_42 (dk_at dksX2_sendSame_0 1 rfl rfl)
theorem dX2_sendSame_2 : decode cX2_sendSame 2 = .ok (.getfield 56, 3) := dk_180 0 56 (dk_at dksX2_sendSame_0 2 rfl rfl)
theorem dX2_sendSame_5 : decode cX2_sendSame 5 = .ok (.iload_n 1, 1) := dk_27 (dk_at dksX2_sendSame_0 5 rfl rfl)
theorem dX2_sendSame_6 : decode cX2_sendSame 6 = .ok (.invokestatic 309, 3) := dk_184 1 53 (dk_at dksX2_sendSame_0 6 rfl rfl)
theorem dX2_sendSame_9 : decode cX2_sendSame 9 = .ok (.ifCond .eq 28, 3) := dk_153 0 28 (dk_at dksX2_sendSame_0 9 rfl rfl)
theorem dX2_sendSame_12 : decode cX2_sendSame 12 = .ok (.iload_n 2, 1) := dk_28 (dk_at dksX2_sendSame_0 12 rfl rfl)
theorem dX2_sendSame_13 : decode cX2_sendSame 13 = .ok (.iconst 1, 1) := dk_4 (dk_at dksX2_sendSame_0 13 rfl rfl)
theorem dX2_sendSame_14 : decode cX2_sendSame 14 = .ok (.bipush 12, 2) := dk_16 12 (dk_at dksX2_sendSame_0 14 rfl rfl)
theorem dX2_sendSame_16 : decode cX2_sendSame 16 = .ok (.invokestatic 77, 3) := dk_184 0 77 (dk_at dksX2_sendSame_0 16 rfl rfl)
theorem dX2_sendSame_19 : decode cX2_sendSame 19 = .ok (.ifCond .eq 18, 3) := dk_153 0 18 (dk_at dksX2_sendSame_0 19 rfl rfl)
theorem dX2_sendSame_22 : decode cX2_sendSame 22 = .ok (.aload_n 0, 1) := dk_42 (dk_at dksX2_sendSame_0 22 rfl rfl)
theorem dX2_sendSame_23 : decode cX2_sendSame 23 = .ok (.getfield 9, 3) := dk_180 0 9 (dk_at dksX2_sendSame_1 0 rfl rfl)
theorem dX2_sendSame_26 : decode cX2_sendSame 26 = .ok (.iconst 3, 1) := dk_6 (dk_at dksX2_sendSame_1 3 rfl rfl)
theorem dX2_sendSame_27 : decode cX2_sendSame 27 = .ok (.iaload, 1) := dk_46 (dk_at dksX2_sendSame_1 4 rfl rfl)
theorem dX2_sendSame_28 : decode cX2_sendSame 28 = .ok (.bipush 6, 2) := dk_16 6 (dk_at dksX2_sendSame_1 5 rfl rfl)
theorem dX2_sendSame_30 : decode cX2_sendSame 30 = .ok (.if_icmp .ge 7, 3) := dk_162 0 7 (dk_at dksX2_sendSame_1 7 rfl rfl)
theorem dX2_sendSame_33 : decode cX2_sendSame 33 = .ok (.iconst 1, 1) := dk_4 (dk_at dksX2_sendSame_1 10 rfl rfl)
theorem dX2_sendSame_34 : decode cX2_sendSame 34 = .ok (.goto 4, 3) := dk_167 0 4 (dk_at dksX2_sendSame_1 11 rfl rfl)
theorem dX2_sendSame_37 : decode cX2_sendSame 37 = .ok (.iconst 0, 1) := dk_3 (dk_at dksX2_sendSame_1 14 rfl rfl)
theorem dX2_sendSame_38 : decode cX2_sendSame 38 = .ok (.invokevirtual 293, 3) := dk_182 1 37 (dk_at dksX2_sendSame_1 15 rfl rfl)
theorem dX2_sendSame_41 : decode cX2_sendSame 41 = .ok (.ifCond .ne 5, 3) := dk_154 0 5 (dk_at dksX2_sendSame_1 18 rfl rfl)
theorem dX2_sendSame_44 : decode cX2_sendSame 44 = .ok (.iconst 0, 1) := dk_3 (dk_at dksX2_sendSame_1 21 rfl rfl)
theorem dX2_sendSame_45 : decode cX2_sendSame 45 = .ok (.ireturn, 1) := dk_172 (dk_at dksX2_sendSame_1 22 rfl rfl)
theorem dX2_sendSame_46 : decode cX2_sendSame 46 = .ok (.aload_n 0, 1) := dk_42 (dk_at dksX2_sendSame_1 23 rfl rfl)
theorem dX2_sendSame_47 : decode cX2_sendSame 47 = .ok (.invokevirtual 428, 3) := dk_182 1 172 (dk_at dksX2_sendSame_2 0 rfl rfl)
theorem dX2_sendSame_50 : decode cX2_sendSame 50 = .ok (.aload_n 0, 1) := dk_42 (dk_at dksX2_sendSame_2 3 rfl rfl)
theorem dX2_sendSame_51 : decode cX2_sendSame 51 = .ok (.iload_n 1, 1) := dk_27 (dk_at dksX2_sendSame_2 4 rfl rfl)
theorem dX2_sendSame_52 : decode cX2_sendSame 52 = .ok (.iload_n 2, 1) := dk_28 (dk_at dksX2_sendSame_2 5 rfl rfl)
theorem dX2_sendSame_53 : decode cX2_sendSame 53 = .ok (.invokevirtual 140, 3) := dk_182 0 140 (dk_at dksX2_sendSame_2 6 rfl rfl)
theorem dX2_sendSame_56 : decode cX2_sendSame 56 = .ok (.ireturn, 1) := dk_172 (dk_at dksX2_sendSame_2 9 rfl rfl)
abbrev cX2_resend : ByteArray := prog_12_method_152_code
def yX2_resend : MethodName := ⟨RX2, "resend", "(I)I"⟩
def dkwX2_resend_3 : List UInt8 := [182, 1, 67, 182, 0, 185, 132, 3, 1, 167, 255, 231, 42, 3, 28, 182, 0, 188, 28, 172]
abbrev dktX2_resend_3 : List UInt8 := dkwX2_resend_3 ++ []
def dkwX2_resend_2 : List UInt8 := [182, 0, 181, 61, 3, 62, 29, 42, 27, 3, 182, 0, 238, 162, 0, 21, 42, 28, 29, 42, 27, 29]
abbrev dktX2_resend_2 : List UInt8 := dkwX2_resend_2 ++ dktX2_resend_3
def dkwX2_resend_1 : List UInt8 := [167, 0, 4, 3, 182, 0, 52, 154, 0, 5, 3, 172, 42, 182, 1, 172, 42, 42, 27, 3, 182, 0, 238]
abbrev dktX2_resend_1 : List UInt8 := dkwX2_resend_1 ++ dktX2_resend_2
def dkwX2_resend_0 : List UInt8 := [42, 42, 180, 0, 56, 42, 27, 182, 1, 47, 42, 180, 0, 9, 6, 46, 16, 6, 162, 0, 7, 4]
abbrev dktX2_resend_0 : List UInt8 := dkwX2_resend_0 ++ dktX2_resend_1
theorem dksX2_resend_0 : cX2_resend.data.toList.drop 0 = dktX2_resend_0 := by decide +kernel
theorem dksX2_resend_1 : cX2_resend.data.toList.drop 22 = dktX2_resend_1 := dk_seg dksX2_resend_0 22 rfl rfl
theorem dksX2_resend_2 : cX2_resend.data.toList.drop 45 = dktX2_resend_2 := dk_seg dksX2_resend_1 23 rfl rfl
theorem dksX2_resend_3 : cX2_resend.data.toList.drop 67 = dktX2_resend_3 := dk_seg dksX2_resend_2 22 rfl rfl
theorem dX2_resend_0 : decode cX2_resend 0 = .ok (.aload_n 0, 1) := dk_42 (dk_at dksX2_resend_0 0 rfl rfl)
theorem dX2_resend_1 : decode cX2_resend 1 = .ok (.aload_n 0, 1) := dk_42 (dk_at dksX2_resend_0 1 rfl rfl)
theorem dX2_resend_2 : decode cX2_resend 2 = .ok (.getfield 56, 3) := dk_180 0 56 (dk_at dksX2_resend_0 2 rfl rfl)
theorem dX2_resend_5 : decode cX2_resend 5 = .ok (.aload_n 0, 1) := dk_42 (dk_at dksX2_resend_0 5 rfl rfl)
theorem dX2_resend_6 : decode cX2_resend 6 = .ok (.iload_n 1, 1) := dk_27 (dk_at dksX2_resend_0 6 rfl rfl)
theorem dX2_resend_7 : decode cX2_resend 7 = .ok (.invokevirtual 303, 3) := dk_182 1 47 (dk_at dksX2_resend_0 7 rfl rfl)
theorem dX2_resend_10 : decode cX2_resend 10 = .ok (.aload_n 0, 1) := dk_42 (dk_at dksX2_resend_0 10 rfl rfl)
theorem dX2_resend_11 : decode cX2_resend 11 = .ok (.getfield 9, 3) := dk_180 0 9 (dk_at dksX2_resend_0 11 rfl rfl)
theorem dX2_resend_14 : decode cX2_resend 14 = .ok (.iconst 3, 1) := dk_6 (dk_at dksX2_resend_0 14 rfl rfl)
theorem dX2_resend_15 : decode cX2_resend 15 = .ok (.iaload, 1) := dk_46 (dk_at dksX2_resend_0 15 rfl rfl)
theorem dX2_resend_16 : decode cX2_resend 16 = .ok (.bipush 6, 2) := dk_16 6 (dk_at dksX2_resend_0 16 rfl rfl)
theorem dX2_resend_18 : decode cX2_resend 18 = .ok (.if_icmp .ge 7, 3) := dk_162 0 7 (dk_at dksX2_resend_0 18 rfl rfl)
theorem dX2_resend_21 : decode cX2_resend 21 = .ok (.iconst 1, 1) := dk_4 (dk_at dksX2_resend_0 21 rfl rfl)
theorem dX2_resend_22 : decode cX2_resend 22 = .ok (.goto 4, 3) := dk_167 0 4 (dk_at dksX2_resend_1 0 rfl rfl)
theorem dX2_resend_25 : decode cX2_resend 25 = .ok (.iconst 0, 1) := dk_3 (dk_at dksX2_resend_1 3 rfl rfl)
theorem dX2_resend_26 : decode cX2_resend 26 = .ok (.invokevirtual 52, 3) := dk_182 0 52 (dk_at dksX2_resend_1 4 rfl rfl)
theorem dX2_resend_29 : decode cX2_resend 29 = .ok (.ifCond .ne 5, 3) := dk_154 0 5 (dk_at dksX2_resend_1 7 rfl rfl)
theorem dX2_resend_32 : decode cX2_resend 32 = .ok (.iconst 0, 1) := dk_3 (dk_at dksX2_resend_1 10 rfl rfl)
theorem dX2_resend_33 : decode cX2_resend 33 = .ok (.ireturn, 1) := dk_172 (dk_at dksX2_resend_1 11 rfl rfl)
theorem dX2_resend_34 : decode cX2_resend 34 = .ok (.aload_n 0, 1) := dk_42 (dk_at dksX2_resend_1 12 rfl rfl)
theorem dX2_resend_35 : decode cX2_resend 35 = .ok (.invokevirtual 428, 3) := dk_182 1 172 (dk_at dksX2_resend_1 13 rfl rfl)
theorem dX2_resend_38 : decode cX2_resend 38 = .ok (.aload_n 0, 1) := dk_42 (dk_at dksX2_resend_1 16 rfl rfl)
theorem dX2_resend_39 : decode cX2_resend 39 = .ok (.aload_n 0, 1) := dk_42 (dk_at dksX2_resend_1 17 rfl rfl)
theorem dX2_resend_40 : decode cX2_resend 40 = .ok (.iload_n 1, 1) := dk_27 (dk_at dksX2_resend_1 18 rfl rfl)
theorem dX2_resend_41 : decode cX2_resend 41 = .ok (.iconst 0, 1) := dk_3 (dk_at dksX2_resend_1 19 rfl rfl)
theorem dX2_resend_42 : decode cX2_resend 42 = .ok (.invokevirtual 238, 3) := dk_182 0 238 (dk_at dksX2_resend_1 20 rfl rfl)
theorem dX2_resend_45 : decode cX2_resend 45 = .ok (.invokevirtual 181, 3) := dk_182 0 181 (dk_at dksX2_resend_2 0 rfl rfl)
theorem dX2_resend_48 : decode cX2_resend 48 = .ok (.istore_n 2, 1) := dk_61 (dk_at dksX2_resend_2 3 rfl rfl)
theorem dX2_resend_49 : decode cX2_resend 49 = .ok (.iconst 0, 1) := dk_3 (dk_at dksX2_resend_2 4 rfl rfl)
theorem dX2_resend_50 : decode cX2_resend 50 = .ok (.istore_n 3, 1) := dk_62 (dk_at dksX2_resend_2 5 rfl rfl)
theorem dX2_resend_51 : decode cX2_resend 51 = .ok (.iload_n 3, 1) := dk_29 (dk_at dksX2_resend_2 6 rfl rfl)
theorem dX2_resend_52 : decode cX2_resend 52 = .ok (.aload_n 0, 1) := dk_42 (dk_at dksX2_resend_2 7 rfl rfl)
theorem dX2_resend_53 : decode cX2_resend 53 = .ok (.iload_n 1, 1) := dk_27 (dk_at dksX2_resend_2 8 rfl rfl)
theorem dX2_resend_54 : decode cX2_resend 54 = .ok (.iconst 0, 1) := dk_3 (dk_at dksX2_resend_2 9 rfl rfl)
theorem dX2_resend_55 : decode cX2_resend 55 = .ok (.invokevirtual 238, 3) := dk_182 0 238 (dk_at dksX2_resend_2 10 rfl rfl)
theorem dX2_resend_58 : decode cX2_resend 58 = .ok (.if_icmp .ge 21, 3) := dk_162 0 21 (dk_at dksX2_resend_2 13 rfl rfl)
theorem dX2_resend_61 : decode cX2_resend 61 = .ok (.aload_n 0, 1) := dk_42 (dk_at dksX2_resend_2 16 rfl rfl)
theorem dX2_resend_62 : decode cX2_resend 62 = .ok (.iload_n 2, 1) := dk_28 (dk_at dksX2_resend_2 17 rfl rfl)
theorem dX2_resend_63 : decode cX2_resend 63 = .ok (.iload_n 3, 1) := dk_29 (dk_at dksX2_resend_2 18 rfl rfl)
theorem dX2_resend_64 : decode cX2_resend 64 = .ok (.aload_n 0, 1) := dk_42 (dk_at dksX2_resend_2 19 rfl rfl)
theorem dX2_resend_65 : decode cX2_resend 65 = .ok (.iload_n 1, 1) := dk_27 (dk_at dksX2_resend_2 20 rfl rfl)
theorem dX2_resend_66 : decode cX2_resend 66 = .ok (.iload_n 3, 1) := dk_29 (dk_at dksX2_resend_2 21 rfl rfl)
theorem dX2_resend_67 : decode cX2_resend 67 = .ok (.invokevirtual 323, 3) := dk_182 1 67 (dk_at dksX2_resend_3 0 rfl rfl)
theorem dX2_resend_70 : decode cX2_resend 70 = .ok (.invokevirtual 185, 3) := dk_182 0 185 (dk_at dksX2_resend_3 3 rfl rfl)
theorem dX2_resend_73 : decode cX2_resend 73 = .ok (.iinc 3 1, 3) := dk_132 3 1 (dk_at dksX2_resend_3 6 rfl rfl)
theorem dX2_resend_76 : decode cX2_resend 76 = .ok (.goto (-25), 3) := dk_167 255 231 (dk_at dksX2_resend_3 9 rfl rfl)
theorem dX2_resend_79 : decode cX2_resend 79 = .ok (.aload_n 0, 1) := dk_42 (dk_at dksX2_resend_3 12 rfl rfl)
theorem dX2_resend_80 : decode cX2_resend 80 = .ok (.iconst 0, 1) := dk_3 (dk_at dksX2_resend_3 13 rfl rfl)
theorem dX2_resend_81 : decode cX2_resend 81 = .ok (.iload_n 2, 1) := dk_28 (dk_at dksX2_resend_3 14 rfl rfl)
theorem dX2_resend_82 : decode cX2_resend 82 = .ok (.invokevirtual 188, 3) := dk_182 0 188 (dk_at dksX2_resend_3 15 rfl rfl)
theorem dX2_resend_85 : decode cX2_resend 85 = .ok (.iload_n 2, 1) := dk_28 (dk_at dksX2_resend_3 18 rfl rfl)
theorem dX2_resend_86 : decode cX2_resend 86 = .ok (.ireturn, 1) := dk_172 (dk_at dksX2_resend_3 19 rfl rfl)
abbrev cX2_pass : ByteArray := prog_12_method_153_code
def yX2_pass : MethodName := ⟨RX2, "pass", "(I)I"⟩
def dkwX2_pass_1 : List UInt8 := [42, 27, 182, 0, 192, 172]
abbrev dktX2_pass_1 : List UInt8 := dkwX2_pass_1 ++ []
def dkwX2_pass_0 : List UInt8 := [42, 42, 180, 0, 56, 27, 4, 16, 50, 184, 0, 77, 182, 1, 37, 154, 0, 5, 3, 172, 42, 182, 1, 172]
abbrev dktX2_pass_0 : List UInt8 := dkwX2_pass_0 ++ dktX2_pass_1
theorem dksX2_pass_0 : cX2_pass.data.toList.drop 0 = dktX2_pass_0 := by decide +kernel
theorem dksX2_pass_1 : cX2_pass.data.toList.drop 24 = dktX2_pass_1 := dk_seg dksX2_pass_0 24 rfl rfl
theorem dX2_pass_0 : decode cX2_pass 0 = .ok (.aload_n 0, 1) := dk_42 (dk_at dksX2_pass_0 0 rfl rfl)
theorem dX2_pass_1 : decode cX2_pass 1 = .ok (.aload_n 0, 1) := dk_42 (dk_at dksX2_pass_0 1 rfl rfl)
theorem dX2_pass_2 : decode cX2_pass 2 = .ok (.getfield 56, 3) := dk_180 0 56 (dk_at dksX2_pass_0 2 rfl rfl)
theorem dX2_pass_5 : decode cX2_pass 5 = .ok (.iload_n 1, 1) := dk_27 (dk_at dksX2_pass_0 5 rfl rfl)
theorem dX2_pass_6 : decode cX2_pass 6 = .ok (.iconst 1, 1) := dk_4 (dk_at dksX2_pass_0 6 rfl rfl)
theorem dX2_pass_7 : decode cX2_pass 7 = .ok (.bipush 50, 2) := dk_16 50 (dk_at dksX2_pass_0 7 rfl rfl)
theorem dX2_pass_9 : decode cX2_pass 9 = .ok (.invokestatic 77, 3) := dk_184 0 77 (dk_at dksX2_pass_0 9 rfl rfl)
theorem dX2_pass_12 : decode cX2_pass 12 = .ok (.invokevirtual 293, 3) := dk_182 1 37 (dk_at dksX2_pass_0 12 rfl rfl)
theorem dX2_pass_15 : decode cX2_pass 15 = .ok (.ifCond .ne 5, 3) := dk_154 0 5 (dk_at dksX2_pass_0 15 rfl rfl)
theorem dX2_pass_18 : decode cX2_pass 18 = .ok (.iconst 0, 1) := dk_3 (dk_at dksX2_pass_0 18 rfl rfl)
theorem dX2_pass_19 : decode cX2_pass 19 = .ok (.ireturn, 1) := dk_172 (dk_at dksX2_pass_0 19 rfl rfl)
theorem dX2_pass_20 : decode cX2_pass 20 = .ok (.aload_n 0, 1) := dk_42 (dk_at dksX2_pass_0 20 rfl rfl)
theorem dX2_pass_21 : decode cX2_pass 21 = .ok (.invokevirtual 428, 3) := dk_182 1 172 (dk_at dksX2_pass_0 21 rfl rfl)
theorem dX2_pass_24 : decode cX2_pass 24 = .ok (.aload_n 0, 1) := dk_42 (dk_at dksX2_pass_1 0 rfl rfl)
theorem dX2_pass_25 : decode cX2_pass 25 = .ok (.iload_n 1, 1) := dk_27 (dk_at dksX2_pass_1 1 rfl rfl)
theorem dX2_pass_26 : decode cX2_pass 26 = .ok (.invokevirtual 192, 3) := dk_182 0 192 (dk_at dksX2_pass_1 2 rfl rfl)
theorem dX2_pass_29 : decode cX2_pass 29 = .ok (.ireturn, 1) := dk_172 (dk_at dksX2_pass_1 5 rfl rfl)
abbrev cX2_setStorm : ByteArray := prog_12_method_154_code
def yX2_setStorm : MethodName := ⟨RX2, "setStorm", "(III)I"⟩
def dkwX2_setStorm_2 : List UInt8 := [54, 4, 42, 27, 28, 29, 182, 0, 130, 21, 4, 172]
abbrev dktX2_setStorm_2 : List UInt8 := dkwX2_setStorm_2 ++ []
def dkwX2_setStorm_1 : List UInt8 := [4, 167, 0, 4, 3, 182, 0, 52, 154, 0, 5, 3, 172, 42, 182, 1, 172, 42, 27, 3, 182, 0, 134]
abbrev dktX2_setStorm_1 : List UInt8 := dkwX2_setStorm_1 ++ dktX2_setStorm_2
def dkwX2_setStorm_0 : List UInt8 := [42, 42, 180, 0, 56, 42, 27, 182, 1, 129, 28, 184, 1, 53, 153, 0, 14, 29, 184, 1, 53, 153, 0, 7]
abbrev dktX2_setStorm_0 : List UInt8 := dkwX2_setStorm_0 ++ dktX2_setStorm_1
theorem dksX2_setStorm_0 : cX2_setStorm.data.toList.drop 0 = dktX2_setStorm_0 := by decide +kernel
theorem dksX2_setStorm_1 : cX2_setStorm.data.toList.drop 24 = dktX2_setStorm_1 := dk_seg dksX2_setStorm_0 24 rfl rfl
theorem dksX2_setStorm_2 : cX2_setStorm.data.toList.drop 47 = dktX2_setStorm_2 := dk_seg dksX2_setStorm_1 23 rfl rfl
theorem dX2_setStorm_0 : decode cX2_setStorm 0 = .ok (.aload_n 0, 1) := dk_42 (dk_at dksX2_setStorm_0 0 rfl rfl)
theorem dX2_setStorm_1 : decode cX2_setStorm 1 = .ok (.aload_n 0, 1) := dk_42 (dk_at dksX2_setStorm_0 1 rfl rfl)
theorem dX2_setStorm_2 : decode cX2_setStorm 2 = .ok (.getfield 56, 3) := dk_180 0 56 (dk_at dksX2_setStorm_0 2 rfl rfl)
theorem dX2_setStorm_5 : decode cX2_setStorm 5 = .ok (.aload_n 0, 1) := dk_42 (dk_at dksX2_setStorm_0 5 rfl rfl)
theorem dX2_setStorm_6 : decode cX2_setStorm 6 = .ok (.iload_n 1, 1) := dk_27 (dk_at dksX2_setStorm_0 6 rfl rfl)
theorem dX2_setStorm_7 : decode cX2_setStorm 7 = .ok (.invokevirtual 385, 3) := dk_182 1 129 (dk_at dksX2_setStorm_0 7 rfl rfl)
theorem dX2_setStorm_10 : decode cX2_setStorm 10 = .ok (.iload_n 2, 1) := dk_28 (dk_at dksX2_setStorm_0 10 rfl rfl)
theorem dX2_setStorm_11 : decode cX2_setStorm 11 = .ok (.invokestatic 309, 3) := dk_184 1 53 (dk_at dksX2_setStorm_0 11 rfl rfl)
theorem dX2_setStorm_14 : decode cX2_setStorm 14 = .ok (.ifCond .eq 14, 3) := dk_153 0 14 (dk_at dksX2_setStorm_0 14 rfl rfl)
theorem dX2_setStorm_17 : decode cX2_setStorm 17 = .ok (.iload_n 3, 1) := dk_29 (dk_at dksX2_setStorm_0 17 rfl rfl)
theorem dX2_setStorm_18 : decode cX2_setStorm 18 = .ok (.invokestatic 309, 3) := dk_184 1 53 (dk_at dksX2_setStorm_0 18 rfl rfl)
theorem dX2_setStorm_21 : decode cX2_setStorm 21 = .ok (.ifCond .eq 7, 3) := dk_153 0 7 (dk_at dksX2_setStorm_0 21 rfl rfl)
theorem dX2_setStorm_24 : decode cX2_setStorm 24 = .ok (.iconst 1, 1) := dk_4 (dk_at dksX2_setStorm_1 0 rfl rfl)
theorem dX2_setStorm_25 : decode cX2_setStorm 25 = .ok (.goto 4, 3) := dk_167 0 4 (dk_at dksX2_setStorm_1 1 rfl rfl)
theorem dX2_setStorm_28 : decode cX2_setStorm 28 = .ok (.iconst 0, 1) := dk_3 (dk_at dksX2_setStorm_1 4 rfl rfl)
theorem dX2_setStorm_29 : decode cX2_setStorm 29 = .ok (.invokevirtual 52, 3) := dk_182 0 52 (dk_at dksX2_setStorm_1 5 rfl rfl)
theorem dX2_setStorm_32 : decode cX2_setStorm 32 = .ok (.ifCond .ne 5, 3) := dk_154 0 5 (dk_at dksX2_setStorm_1 8 rfl rfl)
theorem dX2_setStorm_35 : decode cX2_setStorm 35 = .ok (.iconst 0, 1) := dk_3 (dk_at dksX2_setStorm_1 11 rfl rfl)
theorem dX2_setStorm_36 : decode cX2_setStorm 36 = .ok (.ireturn, 1) := dk_172 (dk_at dksX2_setStorm_1 12 rfl rfl)
theorem dX2_setStorm_37 : decode cX2_setStorm 37 = .ok (.aload_n 0, 1) := dk_42 (dk_at dksX2_setStorm_1 13 rfl rfl)
theorem dX2_setStorm_38 : decode cX2_setStorm 38 = .ok (.invokevirtual 428, 3) := dk_182 1 172 (dk_at dksX2_setStorm_1 14 rfl rfl)
theorem dX2_setStorm_41 : decode cX2_setStorm 41 = .ok (.aload_n 0, 1) := dk_42 (dk_at dksX2_setStorm_1 17 rfl rfl)
theorem dX2_setStorm_42 : decode cX2_setStorm 42 = .ok (.iload_n 1, 1) := dk_27 (dk_at dksX2_setStorm_1 18 rfl rfl)
theorem dX2_setStorm_43 : decode cX2_setStorm 43 = .ok (.iconst 0, 1) := dk_3 (dk_at dksX2_setStorm_1 19 rfl rfl)
theorem dX2_setStorm_44 : decode cX2_setStorm 44 = .ok (.invokevirtual 134, 3) := dk_182 0 134 (dk_at dksX2_setStorm_1 20 rfl rfl)
theorem dX2_setStorm_47 : decode cX2_setStorm 47 = .ok (.istore 4, 2) := dk_54 4 (dk_at dksX2_setStorm_2 0 rfl rfl)
theorem dX2_setStorm_49 : decode cX2_setStorm 49 = .ok (.aload_n 0, 1) := dk_42 (dk_at dksX2_setStorm_2 2 rfl rfl)
theorem dX2_setStorm_50 : decode cX2_setStorm 50 = .ok (.iload_n 1, 1) := dk_27 (dk_at dksX2_setStorm_2 3 rfl rfl)
theorem dX2_setStorm_51 : decode cX2_setStorm 51 = .ok (.iload_n 2, 1) := dk_28 (dk_at dksX2_setStorm_2 4 rfl rfl)
theorem dX2_setStorm_52 : decode cX2_setStorm 52 = .ok (.iload_n 3, 1) := dk_29 (dk_at dksX2_setStorm_2 5 rfl rfl)
theorem dX2_setStorm_53 : decode cX2_setStorm 53 = .ok (.invokevirtual 130, 3) := dk_182 0 130 (dk_at dksX2_setStorm_2 6 rfl rfl)
theorem dX2_setStorm_56 : decode cX2_setStorm 56 = .ok (.iload 4, 2) := dk_21 4 (dk_at dksX2_setStorm_2 9 rfl rfl)
theorem dX2_setStorm_58 : decode cX2_setStorm 58 = .ok (.ireturn, 1) := dk_172 (dk_at dksX2_setStorm_2 11 rfl rfl)
abbrev cX2_calm : ByteArray := prog_12_method_156_code
def yX2_calm : MethodName := ⟨RX2, "calm", "()I"⟩
def dkwX2_calm_1 : List UInt8 := [172]
abbrev dktX2_calm_1 : List UInt8 := dkwX2_calm_1 ++ []
def dkwX2_calm_0 : List UInt8 := [42, 182, 1, 56, 154, 0, 5, 3, 172, 42, 182, 1, 172, 42, 3, 182, 1, 41, 60, 42, 182, 0, 143, 27]
abbrev dktX2_calm_0 : List UInt8 := dkwX2_calm_0 ++ dktX2_calm_1
theorem dksX2_calm_0 : cX2_calm.data.toList.drop 0 = dktX2_calm_0 := by decide +kernel
theorem dksX2_calm_1 : cX2_calm.data.toList.drop 24 = dktX2_calm_1 := dk_seg dksX2_calm_0 24 rfl rfl
theorem dX2_calm_0 : decode cX2_calm 0 = .ok (.aload_n 0, 1) := dk_42 (dk_at dksX2_calm_0 0 rfl rfl)
theorem dX2_calm_1 : decode cX2_calm 1 = .ok (.invokevirtual 312, 3) := dk_182 1 56 (dk_at dksX2_calm_0 1 rfl rfl)
theorem dX2_calm_4 : decode cX2_calm 4 = .ok (.ifCond .ne 5, 3) := dk_154 0 5 (dk_at dksX2_calm_0 4 rfl rfl)
theorem dX2_calm_7 : decode cX2_calm 7 = .ok (.iconst 0, 1) := dk_3 (dk_at dksX2_calm_0 7 rfl rfl)
theorem dX2_calm_8 : decode cX2_calm 8 = .ok (.ireturn, 1) := dk_172 (dk_at dksX2_calm_0 8 rfl rfl)
theorem dX2_calm_9 : decode cX2_calm 9 = .ok (.aload_n 0, 1) := dk_42 (dk_at dksX2_calm_0 9 rfl rfl)
theorem dX2_calm_10 : decode cX2_calm 10 = .ok (.invokevirtual 428, 3) := dk_182 1 172 (dk_at dksX2_calm_0 10 rfl rfl)
theorem dX2_calm_13 : decode cX2_calm 13 = .ok (.aload_n 0, 1) := dk_42 (dk_at dksX2_calm_0 13 rfl rfl)
theorem dX2_calm_14 : decode cX2_calm 14 = .ok (.iconst 0, 1) := dk_3 (dk_at dksX2_calm_0 14 rfl rfl)
theorem dX2_calm_15 : decode cX2_calm 15 = .ok (.invokevirtual 297, 3) := dk_182 1 41 (dk_at dksX2_calm_0 15 rfl rfl)
theorem dX2_calm_18 : decode cX2_calm 18 = .ok (.istore_n 1, 1) := dk_60 (dk_at dksX2_calm_0 18 rfl rfl)
theorem dX2_calm_19 : decode cX2_calm 19 = .ok (.aload_n 0, 1) := dk_42 (dk_at dksX2_calm_0 19 rfl rfl)
theorem dX2_calm_20 : decode cX2_calm 20 = .ok (.invokevirtual 143, 3) := dk_182 0 143 (dk_at dksX2_calm_0 20 rfl rfl)
theorem dX2_calm_23 : decode cX2_calm 23 = .ok (.iload_n 1, 1) := dk_27 (dk_at dksX2_calm_0 23 rfl rfl)
theorem dX2_calm_24 : decode cX2_calm 24 = .ok (.ireturn, 1) := dk_172 (dk_at dksX2_calm_1 0 rfl rfl)
abbrev cX2_mendAll : ByteArray := prog_12_method_157_code
def yX2_mendAll : MethodName := ⟨RX2, "mendAll", "()I"⟩
def dkwX2_mendAll_1 : List UInt8 := [42, 182, 1, 17, 104, 162, 0, 16, 42, 28, 5, 3, 182, 0, 137, 132, 2, 1, 167, 255, 235, 27, 172]
abbrev dktX2_mendAll_1 : List UInt8 := dkwX2_mendAll_1 ++ []
def dkwX2_mendAll_0 : List UInt8 := [42, 182, 1, 56, 154, 0, 5, 3, 172, 42, 182, 1, 172, 42, 5, 182, 1, 41, 60, 3, 61, 28, 16, 9]
abbrev dktX2_mendAll_0 : List UInt8 := dkwX2_mendAll_0 ++ dktX2_mendAll_1
theorem dksX2_mendAll_0 : cX2_mendAll.data.toList.drop 0 = dktX2_mendAll_0 := by decide +kernel
theorem dksX2_mendAll_1 : cX2_mendAll.data.toList.drop 24 = dktX2_mendAll_1 := dk_seg dksX2_mendAll_0 24 rfl rfl
theorem dX2_mendAll_0 : decode cX2_mendAll 0 = .ok (.aload_n 0, 1) := dk_42 (dk_at dksX2_mendAll_0 0 rfl rfl)
theorem dX2_mendAll_1 : decode cX2_mendAll 1 = .ok (.invokevirtual 312, 3) := dk_182 1 56 (dk_at dksX2_mendAll_0 1 rfl rfl)
theorem dX2_mendAll_4 : decode cX2_mendAll 4 = .ok (.ifCond .ne 5, 3) := dk_154 0 5 (dk_at dksX2_mendAll_0 4 rfl rfl)
theorem dX2_mendAll_7 : decode cX2_mendAll 7 = .ok (.iconst 0, 1) := dk_3 (dk_at dksX2_mendAll_0 7 rfl rfl)
theorem dX2_mendAll_8 : decode cX2_mendAll 8 = .ok (.ireturn, 1) := dk_172 (dk_at dksX2_mendAll_0 8 rfl rfl)
theorem dX2_mendAll_9 : decode cX2_mendAll 9 = .ok (.aload_n 0, 1) := dk_42 (dk_at dksX2_mendAll_0 9 rfl rfl)
theorem dX2_mendAll_10 : decode cX2_mendAll 10 = .ok (.invokevirtual 428, 3) := dk_182 1 172 (dk_at dksX2_mendAll_0 10 rfl rfl)
theorem dX2_mendAll_13 : decode cX2_mendAll 13 = .ok (.aload_n 0, 1) := dk_42 (dk_at dksX2_mendAll_0 13 rfl rfl)
theorem dX2_mendAll_14 : decode cX2_mendAll 14 = .ok (.iconst 2, 1) := dk_5 (dk_at dksX2_mendAll_0 14 rfl rfl)
theorem dX2_mendAll_15 : decode cX2_mendAll 15 = .ok (.invokevirtual 297, 3) := dk_182 1 41 (dk_at dksX2_mendAll_0 15 rfl rfl)
theorem dX2_mendAll_18 : decode cX2_mendAll 18 = .ok (.istore_n 1, 1) := dk_60 (dk_at dksX2_mendAll_0 18 rfl rfl)
theorem dX2_mendAll_19 : decode cX2_mendAll 19 = .ok (.iconst 0, 1) := dk_3 (dk_at dksX2_mendAll_0 19 rfl rfl)
theorem dX2_mendAll_20 : decode cX2_mendAll 20 = .ok (.istore_n 2, 1) := dk_61 (dk_at dksX2_mendAll_0 20 rfl rfl)
theorem dX2_mendAll_21 : decode cX2_mendAll 21 = .ok (.iload_n 2, 1) := dk_28 (dk_at dksX2_mendAll_0 21 rfl rfl)
theorem dX2_mendAll_22 : decode cX2_mendAll 22 = .ok (.bipush 9, 2) := dk_16 9 (dk_at dksX2_mendAll_0 22 rfl rfl)
theorem dX2_mendAll_24 : decode cX2_mendAll 24 = .ok (.aload_n 0, 1) := dk_42 (dk_at dksX2_mendAll_1 0 rfl rfl)
theorem dX2_mendAll_25 : decode cX2_mendAll 25 = .ok (.invokevirtual 273, 3) := dk_182 1 17 (dk_at dksX2_mendAll_1 1 rfl rfl)
theorem dX2_mendAll_28 : decode cX2_mendAll 28 = .ok (.imul, 1) := dk_104 (dk_at dksX2_mendAll_1 4 rfl rfl)
theorem dX2_mendAll_29 : decode cX2_mendAll 29 = .ok (.if_icmp .ge 16, 3) := dk_162 0 16 (dk_at dksX2_mendAll_1 5 rfl rfl)
theorem dX2_mendAll_32 : decode cX2_mendAll 32 = .ok (.aload_n 0, 1) := dk_42 (dk_at dksX2_mendAll_1 8 rfl rfl)
theorem dX2_mendAll_33 : decode cX2_mendAll 33 = .ok (.iload_n 2, 1) := dk_28 (dk_at dksX2_mendAll_1 9 rfl rfl)
theorem dX2_mendAll_34 : decode cX2_mendAll 34 = .ok (.iconst 2, 1) := dk_5 (dk_at dksX2_mendAll_1 10 rfl rfl)
theorem dX2_mendAll_35 : decode cX2_mendAll 35 = .ok (.iconst 0, 1) := dk_3 (dk_at dksX2_mendAll_1 11 rfl rfl)
theorem dX2_mendAll_36 : decode cX2_mendAll 36 = .ok (.invokevirtual 137, 3) := dk_182 0 137 (dk_at dksX2_mendAll_1 12 rfl rfl)
theorem dX2_mendAll_39 : decode cX2_mendAll 39 = .ok (.iinc 2 1, 3) := dk_132 2 1 (dk_at dksX2_mendAll_1 15 rfl rfl)
theorem dX2_mendAll_42 : decode cX2_mendAll 42 = .ok (.goto (-21), 3) := dk_167 255 235 (dk_at dksX2_mendAll_1 18 rfl rfl)
theorem dX2_mendAll_45 : decode cX2_mendAll 45 = .ok (.iload_n 1, 1) := dk_27 (dk_at dksX2_mendAll_1 21 rfl rfl)
theorem dX2_mendAll_46 : decode cX2_mendAll 46 = .ok (.ireturn, 1) := dk_172 (dk_at dksX2_mendAll_1 22 rfl rfl)
abbrev cX2_turnLevel : ByteArray := prog_12_method_158_code
def yX2_turnLevel : MethodName := ⟨RX2, "turnLevel", "(I)I"⟩
def dkwX2_turnLevel_6 : List UInt8 := [132, 3, 1, 167, 255, 187, 28, 172]
abbrev dktX2_turnLevel_6 : List UInt8 := dkwX2_turnLevel_6 ++ []
def dkwX2_turnLevel_5 : List UInt8 := [16, 9, 27, 104, 29, 96, 42, 180, 0, 43, 21, 4, 46, 42, 180, 0, 46, 21, 4, 46, 182, 0, 130]
abbrev dktX2_turnLevel_5 : List UInt8 := dkwX2_turnLevel_5 ++ dktX2_turnLevel_6
def dkwX2_turnLevel_4 : List UInt8 := [21, 4, 46, 42, 180, 0, 43, 29, 46, 159, 0, 7, 4, 167, 0, 4, 3, 184, 1, 4, 96, 61, 42]
abbrev dktX2_turnLevel_4 : List UInt8 := dkwX2_turnLevel_4 ++ dktX2_turnLevel_5
def dkwX2_turnLevel_3 : List UInt8 := [3, 61, 3, 62, 29, 16, 9, 162, 0, 69, 29, 16, 6, 96, 16, 9, 112, 54, 4, 28, 42, 180, 0, 43]
abbrev dktX2_turnLevel_3 : List UInt8 := dkwX2_turnLevel_3 ++ dktX2_turnLevel_4
def dkwX2_turnLevel_2 : List UInt8 := [79, 42, 180, 0, 46, 28, 42, 16, 9, 27, 104, 28, 96, 4, 182, 0, 134, 79, 132, 2, 1, 167, 255, 213]
abbrev dktX2_turnLevel_2 : List UInt8 := dkwX2_turnLevel_2 ++ dktX2_turnLevel_3
def dkwX2_turnLevel_1 : List UInt8 := [3, 61, 28, 16, 9, 162, 0, 43, 42, 180, 0, 43, 28, 42, 16, 9, 27, 104, 28, 96, 3, 182, 0, 134]
abbrev dktX2_turnLevel_1 : List UInt8 := dkwX2_turnLevel_1 ++ dktX2_turnLevel_2
def dkwX2_turnLevel_0 : List UInt8 := [42, 42, 180, 0, 56, 42, 27, 3, 3, 182, 1, 50, 182, 1, 37, 154, 0, 5, 3, 172, 42, 182, 1, 172]
abbrev dktX2_turnLevel_0 : List UInt8 := dkwX2_turnLevel_0 ++ dktX2_turnLevel_1
theorem dksX2_turnLevel_0 : cX2_turnLevel.data.toList.drop 0 = dktX2_turnLevel_0 := by decide +kernel
theorem dksX2_turnLevel_1 : cX2_turnLevel.data.toList.drop 24 = dktX2_turnLevel_1 := dk_seg dksX2_turnLevel_0 24 rfl rfl
theorem dksX2_turnLevel_2 : cX2_turnLevel.data.toList.drop 48 = dktX2_turnLevel_2 := dk_seg dksX2_turnLevel_1 24 rfl rfl
theorem dksX2_turnLevel_3 : cX2_turnLevel.data.toList.drop 72 = dktX2_turnLevel_3 := dk_seg dksX2_turnLevel_2 24 rfl rfl
theorem dksX2_turnLevel_4 : cX2_turnLevel.data.toList.drop 96 = dktX2_turnLevel_4 := dk_seg dksX2_turnLevel_3 24 rfl rfl
theorem dksX2_turnLevel_5 : cX2_turnLevel.data.toList.drop 119 = dktX2_turnLevel_5 := dk_seg dksX2_turnLevel_4 23 rfl rfl
theorem dksX2_turnLevel_6 : cX2_turnLevel.data.toList.drop 142 = dktX2_turnLevel_6 := dk_seg dksX2_turnLevel_5 23 rfl rfl
theorem dX2_turnLevel_0 : decode cX2_turnLevel 0 = .ok (.aload_n 0, 1) := dk_42 (dk_at dksX2_turnLevel_0 0 rfl rfl)
theorem dX2_turnLevel_1 : decode cX2_turnLevel 1 = .ok (.aload_n 0, 1) := dk_42 (dk_at dksX2_turnLevel_0 1 rfl rfl)
theorem dX2_turnLevel_2 : decode cX2_turnLevel 2 = .ok (.getfield 56, 3) := dk_180 0 56 (dk_at dksX2_turnLevel_0 2 rfl rfl)
theorem dX2_turnLevel_5 : decode cX2_turnLevel 5 = .ok (.aload_n 0, 1) := dk_42 (dk_at dksX2_turnLevel_0 5 rfl rfl)
theorem dX2_turnLevel_6 : decode cX2_turnLevel 6 = .ok (.iload_n 1, 1) := dk_27 (dk_at dksX2_turnLevel_0 6 rfl rfl)
theorem dX2_turnLevel_7 : decode cX2_turnLevel 7 = .ok (.iconst 0, 1) := dk_3 (dk_at dksX2_turnLevel_0 7 rfl rfl)
theorem dX2_turnLevel_8 : decode cX2_turnLevel 8 = .ok (.iconst 0, 1) := dk_3 (dk_at dksX2_turnLevel_0 8 rfl rfl)
theorem dX2_turnLevel_9 : decode cX2_turnLevel 9 = .ok (.invokevirtual 306, 3) := dk_182 1 50 (dk_at dksX2_turnLevel_0 9 rfl rfl)
theorem dX2_turnLevel_12 : decode cX2_turnLevel 12 = .ok (.invokevirtual 293, 3) := dk_182 1 37 (dk_at dksX2_turnLevel_0 12 rfl rfl)
theorem dX2_turnLevel_15 : decode cX2_turnLevel 15 = .ok (.ifCond .ne 5, 3) := dk_154 0 5 (dk_at dksX2_turnLevel_0 15 rfl rfl)
theorem dX2_turnLevel_18 : decode cX2_turnLevel 18 = .ok (.iconst 0, 1) := dk_3 (dk_at dksX2_turnLevel_0 18 rfl rfl)
theorem dX2_turnLevel_19 : decode cX2_turnLevel 19 = .ok (.ireturn, 1) := dk_172 (dk_at dksX2_turnLevel_0 19 rfl rfl)
theorem dX2_turnLevel_20 : decode cX2_turnLevel 20 = .ok (.aload_n 0, 1) := dk_42 (dk_at dksX2_turnLevel_0 20 rfl rfl)
theorem dX2_turnLevel_21 : decode cX2_turnLevel 21 = .ok (.invokevirtual 428, 3) := dk_182 1 172 (dk_at dksX2_turnLevel_0 21 rfl rfl)
theorem dX2_turnLevel_24 : decode cX2_turnLevel 24 = .ok (.iconst 0, 1) := dk_3 (dk_at dksX2_turnLevel_1 0 rfl rfl)
theorem dX2_turnLevel_25 : decode cX2_turnLevel 25 = .ok (.istore_n 2, 1) := dk_61 (dk_at dksX2_turnLevel_1 1 rfl rfl)
theorem dX2_turnLevel_26 : decode cX2_turnLevel 26 = .ok (.iload_n 2, 1) := dk_28 (dk_at dksX2_turnLevel_1 2 rfl rfl)
theorem dX2_turnLevel_27 : decode cX2_turnLevel 27 = .ok (.bipush 9, 2) := dk_16 9 (dk_at dksX2_turnLevel_1 3 rfl rfl)
theorem dX2_turnLevel_29 : decode cX2_turnLevel 29 = .ok (.if_icmp .ge 43, 3) := dk_162 0 43 (dk_at dksX2_turnLevel_1 5 rfl rfl)
theorem dX2_turnLevel_32 : decode cX2_turnLevel 32 = .ok (.aload_n 0, 1) := dk_42 (dk_at dksX2_turnLevel_1 8 rfl rfl)
theorem dX2_turnLevel_33 : decode cX2_turnLevel 33 = .ok (.getfield 43, 3) := dk_180 0 43 (dk_at dksX2_turnLevel_1 9 rfl rfl)
theorem dX2_turnLevel_36 : decode cX2_turnLevel 36 = .ok (.iload_n 2, 1) := dk_28 (dk_at dksX2_turnLevel_1 12 rfl rfl)
theorem dX2_turnLevel_37 : decode cX2_turnLevel 37 = .ok (.aload_n 0, 1) := dk_42 (dk_at dksX2_turnLevel_1 13 rfl rfl)
theorem dX2_turnLevel_38 : decode cX2_turnLevel 38 = .ok (.bipush 9, 2) := dk_16 9 (dk_at dksX2_turnLevel_1 14 rfl rfl)
theorem dX2_turnLevel_40 : decode cX2_turnLevel 40 = .ok (.iload_n 1, 1) := dk_27 (dk_at dksX2_turnLevel_1 16 rfl rfl)
theorem dX2_turnLevel_41 : decode cX2_turnLevel 41 = .ok (.imul, 1) := dk_104 (dk_at dksX2_turnLevel_1 17 rfl rfl)
theorem dX2_turnLevel_42 : decode cX2_turnLevel 42 = .ok (.iload_n 2, 1) := dk_28 (dk_at dksX2_turnLevel_1 18 rfl rfl)
theorem dX2_turnLevel_43 : decode cX2_turnLevel 43 = .ok (.iadd, 1) := dk_96 (dk_at dksX2_turnLevel_1 19 rfl rfl)
theorem dX2_turnLevel_44 : decode cX2_turnLevel 44 = .ok (.iconst 0, 1) := dk_3 (dk_at dksX2_turnLevel_1 20 rfl rfl)
theorem dX2_turnLevel_45 : decode cX2_turnLevel 45 = .ok (.invokevirtual 134, 3) := dk_182 0 134 (dk_at dksX2_turnLevel_1 21 rfl rfl)
theorem dX2_turnLevel_48 : decode cX2_turnLevel 48 = .ok (.iastore, 1) := dk_79 (dk_at dksX2_turnLevel_2 0 rfl rfl)
theorem dX2_turnLevel_49 : decode cX2_turnLevel 49 = .ok (.aload_n 0, 1) := dk_42 (dk_at dksX2_turnLevel_2 1 rfl rfl)
theorem dX2_turnLevel_50 : decode cX2_turnLevel 50 = .ok (.getfield 46, 3) := dk_180 0 46 (dk_at dksX2_turnLevel_2 2 rfl rfl)
theorem dX2_turnLevel_53 : decode cX2_turnLevel 53 = .ok (.iload_n 2, 1) := dk_28 (dk_at dksX2_turnLevel_2 5 rfl rfl)
theorem dX2_turnLevel_54 : decode cX2_turnLevel 54 = .ok (.aload_n 0, 1) := dk_42 (dk_at dksX2_turnLevel_2 6 rfl rfl)
theorem dX2_turnLevel_55 : decode cX2_turnLevel 55 = .ok (.bipush 9, 2) := dk_16 9 (dk_at dksX2_turnLevel_2 7 rfl rfl)
theorem dX2_turnLevel_57 : decode cX2_turnLevel 57 = .ok (.iload_n 1, 1) := dk_27 (dk_at dksX2_turnLevel_2 9 rfl rfl)
theorem dX2_turnLevel_58 : decode cX2_turnLevel 58 = .ok (.imul, 1) := dk_104 (dk_at dksX2_turnLevel_2 10 rfl rfl)
theorem dX2_turnLevel_59 : decode cX2_turnLevel 59 = .ok (.iload_n 2, 1) := dk_28 (dk_at dksX2_turnLevel_2 11 rfl rfl)
theorem dX2_turnLevel_60 : decode cX2_turnLevel 60 = .ok (.iadd, 1) := dk_96 (dk_at dksX2_turnLevel_2 12 rfl rfl)
theorem dX2_turnLevel_61 : decode cX2_turnLevel 61 = .ok (.iconst 1, 1) := dk_4 (dk_at dksX2_turnLevel_2 13 rfl rfl)
theorem dX2_turnLevel_62 : decode cX2_turnLevel 62 = .ok (.invokevirtual 134, 3) := dk_182 0 134 (dk_at dksX2_turnLevel_2 14 rfl rfl)
theorem dX2_turnLevel_65 : decode cX2_turnLevel 65 = .ok (.iastore, 1) := dk_79 (dk_at dksX2_turnLevel_2 17 rfl rfl)
theorem dX2_turnLevel_66 : decode cX2_turnLevel 66 = .ok (.iinc 2 1, 3) := dk_132 2 1 (dk_at dksX2_turnLevel_2 18 rfl rfl)
theorem dX2_turnLevel_69 : decode cX2_turnLevel 69 = .ok (.goto (-43), 3) := dk_167 255 213 (dk_at dksX2_turnLevel_2 21 rfl rfl)
theorem dX2_turnLevel_72 : decode cX2_turnLevel 72 = .ok (.iconst 0, 1) := dk_3 (dk_at dksX2_turnLevel_3 0 rfl rfl)
theorem dX2_turnLevel_73 : decode cX2_turnLevel 73 = .ok (.istore_n 2, 1) := dk_61 (dk_at dksX2_turnLevel_3 1 rfl rfl)
theorem dX2_turnLevel_74 : decode cX2_turnLevel 74 = .ok (.iconst 0, 1) := dk_3 (dk_at dksX2_turnLevel_3 2 rfl rfl)
theorem dX2_turnLevel_75 : decode cX2_turnLevel 75 = .ok (.istore_n 3, 1) := dk_62 (dk_at dksX2_turnLevel_3 3 rfl rfl)
theorem dX2_turnLevel_76 : decode cX2_turnLevel 76 = .ok (.iload_n 3, 1) := dk_29 (dk_at dksX2_turnLevel_3 4 rfl rfl)
theorem dX2_turnLevel_77 : decode cX2_turnLevel 77 = .ok (.bipush 9, 2) := dk_16 9 (dk_at dksX2_turnLevel_3 5 rfl rfl)
theorem dX2_turnLevel_79 : decode cX2_turnLevel 79 = .ok (.if_icmp .ge 69, 3) := dk_162 0 69 (dk_at dksX2_turnLevel_3 7 rfl rfl)
theorem dX2_turnLevel_82 : decode cX2_turnLevel 82 = .ok (.iload_n 3, 1) := dk_29 (dk_at dksX2_turnLevel_3 10 rfl rfl)
theorem dX2_turnLevel_83 : decode cX2_turnLevel 83 = .ok (.bipush 6, 2) := dk_16 6 (dk_at dksX2_turnLevel_3 11 rfl rfl)
theorem dX2_turnLevel_85 : decode cX2_turnLevel 85 = .ok (.iadd, 1) := dk_96 (dk_at dksX2_turnLevel_3 13 rfl rfl)
theorem dX2_turnLevel_86 : decode cX2_turnLevel 86 = .ok (.bipush 9, 2) := dk_16 9 (dk_at dksX2_turnLevel_3 14 rfl rfl)
theorem dX2_turnLevel_88 : decode cX2_turnLevel 88 = .ok (.irem, 1) := dk_112 (dk_at dksX2_turnLevel_3 16 rfl rfl)
theorem dX2_turnLevel_89 : decode cX2_turnLevel 89 = .ok (.istore 4, 2) := dk_54 4 (dk_at dksX2_turnLevel_3 17 rfl rfl)
theorem dX2_turnLevel_91 : decode cX2_turnLevel 91 = .ok (.iload_n 2, 1) := dk_28 (dk_at dksX2_turnLevel_3 19 rfl rfl)
theorem dX2_turnLevel_92 : decode cX2_turnLevel 92 = .ok (.aload_n 0, 1) := dk_42 (dk_at dksX2_turnLevel_3 20 rfl rfl)
theorem dX2_turnLevel_93 : decode cX2_turnLevel 93 = .ok (.getfield 43, 3) := dk_180 0 43 (dk_at dksX2_turnLevel_3 21 rfl rfl)
theorem dX2_turnLevel_96 : decode cX2_turnLevel 96 = .ok (.iload 4, 2) := dk_21 4 (dk_at dksX2_turnLevel_4 0 rfl rfl)
theorem dX2_turnLevel_98 : decode cX2_turnLevel 98 = .ok (.iaload, 1) := dk_46 (dk_at dksX2_turnLevel_4 2 rfl rfl)
theorem dX2_turnLevel_99 : decode cX2_turnLevel 99 = .ok (.aload_n 0, 1) := dk_42 (dk_at dksX2_turnLevel_4 3 rfl rfl)
theorem dX2_turnLevel_100 : decode cX2_turnLevel 100 = .ok (.getfield 43, 3) := dk_180 0 43 (dk_at dksX2_turnLevel_4 4 rfl rfl)
theorem dX2_turnLevel_103 : decode cX2_turnLevel 103 = .ok (.iload_n 3, 1) := dk_29 (dk_at dksX2_turnLevel_4 7 rfl rfl)
theorem dX2_turnLevel_104 : decode cX2_turnLevel 104 = .ok (.iaload, 1) := dk_46 (dk_at dksX2_turnLevel_4 8 rfl rfl)
theorem dX2_turnLevel_105 : decode cX2_turnLevel 105 = .ok (.if_icmp .eq 7, 3) := dk_159 0 7 (dk_at dksX2_turnLevel_4 9 rfl rfl)
theorem dX2_turnLevel_108 : decode cX2_turnLevel 108 = .ok (.iconst 1, 1) := dk_4 (dk_at dksX2_turnLevel_4 12 rfl rfl)
theorem dX2_turnLevel_109 : decode cX2_turnLevel 109 = .ok (.goto 4, 3) := dk_167 0 4 (dk_at dksX2_turnLevel_4 13 rfl rfl)
theorem dX2_turnLevel_112 : decode cX2_turnLevel 112 = .ok (.iconst 0, 1) := dk_3 (dk_at dksX2_turnLevel_4 16 rfl rfl)
theorem dX2_turnLevel_113 : decode cX2_turnLevel 113 = .ok (.invokestatic 260, 3) := dk_184 1 4 (dk_at dksX2_turnLevel_4 17 rfl rfl)
theorem dX2_turnLevel_116 : decode cX2_turnLevel 116 = .ok (.iadd, 1) := dk_96 (dk_at dksX2_turnLevel_4 20 rfl rfl)
theorem dX2_turnLevel_117 : decode cX2_turnLevel 117 = .ok (.istore_n 2, 1) := dk_61 (dk_at dksX2_turnLevel_4 21 rfl rfl)
theorem dX2_turnLevel_118 : decode cX2_turnLevel 118 = .ok (.aload_n 0, 1) := dk_42 (dk_at dksX2_turnLevel_4 22 rfl rfl)
theorem dX2_turnLevel_119 : decode cX2_turnLevel 119 = .ok (.bipush 9, 2) := dk_16 9 (dk_at dksX2_turnLevel_5 0 rfl rfl)
theorem dX2_turnLevel_121 : decode cX2_turnLevel 121 = .ok (.iload_n 1, 1) := dk_27 (dk_at dksX2_turnLevel_5 2 rfl rfl)
theorem dX2_turnLevel_122 : decode cX2_turnLevel 122 = .ok (.imul, 1) := dk_104 (dk_at dksX2_turnLevel_5 3 rfl rfl)
theorem dX2_turnLevel_123 : decode cX2_turnLevel 123 = .ok (.iload_n 3, 1) := dk_29 (dk_at dksX2_turnLevel_5 4 rfl rfl)
theorem dX2_turnLevel_124 : decode cX2_turnLevel 124 = .ok (.iadd, 1) := dk_96 (dk_at dksX2_turnLevel_5 5 rfl rfl)
theorem dX2_turnLevel_125 : decode cX2_turnLevel 125 = .ok (.aload_n 0, 1) := dk_42 (dk_at dksX2_turnLevel_5 6 rfl rfl)
theorem dX2_turnLevel_126 : decode cX2_turnLevel 126 = .ok (.getfield 43, 3) := dk_180 0 43 (dk_at dksX2_turnLevel_5 7 rfl rfl)
theorem dX2_turnLevel_129 : decode cX2_turnLevel 129 = .ok (.iload 4, 2) := dk_21 4 (dk_at dksX2_turnLevel_5 10 rfl rfl)
theorem dX2_turnLevel_131 : decode cX2_turnLevel 131 = .ok (.iaload, 1) := dk_46 (dk_at dksX2_turnLevel_5 12 rfl rfl)
theorem dX2_turnLevel_132 : decode cX2_turnLevel 132 = .ok (.aload_n 0, 1) := dk_42 (dk_at dksX2_turnLevel_5 13 rfl rfl)
theorem dX2_turnLevel_133 : decode cX2_turnLevel 133 = .ok (.getfield 46, 3) := dk_180 0 46 (dk_at dksX2_turnLevel_5 14 rfl rfl)
theorem dX2_turnLevel_136 : decode cX2_turnLevel 136 = .ok (.iload 4, 2) := dk_21 4 (dk_at dksX2_turnLevel_5 17 rfl rfl)
theorem dX2_turnLevel_138 : decode cX2_turnLevel 138 = .ok (.iaload, 1) := dk_46 (dk_at dksX2_turnLevel_5 19 rfl rfl)
theorem dX2_turnLevel_139 : decode cX2_turnLevel 139 = .ok (.invokevirtual 130, 3) := dk_182 0 130 (dk_at dksX2_turnLevel_5 20 rfl rfl)
theorem dX2_turnLevel_142 : decode cX2_turnLevel 142 = .ok (.iinc 3 1, 3) := dk_132 3 1 (dk_at dksX2_turnLevel_6 0 rfl rfl)
theorem dX2_turnLevel_145 : decode cX2_turnLevel 145 = .ok (.goto (-69), 3) := dk_167 255 187 (dk_at dksX2_turnLevel_6 3 rfl rfl)
theorem dX2_turnLevel_148 : decode cX2_turnLevel 148 = .ok (.iload_n 2, 1) := dk_28 (dk_at dksX2_turnLevel_6 6 rfl rfl)
theorem dX2_turnLevel_149 : decode cX2_turnLevel 149 = .ok (.ireturn, 1) := dk_172 (dk_at dksX2_turnLevel_6 7 rfl rfl)
abbrev cX2_turnWire : ByteArray := prog_12_method_159_code
def yX2_turnWire : MethodName := ⟨RX2, "turnWire", "(I)I"⟩
def dkwX2_turnWire_1 : List UInt8 := [5, 4, 42, 27, 5, 182, 0, 134, 100, 182, 0, 137, 42, 27, 5, 182, 0, 134, 172]
abbrev dktX2_turnWire_1 : List UInt8 := dkwX2_turnWire_1 ++ []
def dkwX2_turnWire_0 : List UInt8 := [42, 42, 180, 0, 56, 42, 27, 182, 1, 129, 182, 1, 37, 154, 0, 5, 3, 172, 42, 182, 1, 172, 42, 27]
abbrev dktX2_turnWire_0 : List UInt8 := dkwX2_turnWire_0 ++ dktX2_turnWire_1
theorem dksX2_turnWire_0 : cX2_turnWire.data.toList.drop 0 = dktX2_turnWire_0 := by decide +kernel
theorem dksX2_turnWire_1 : cX2_turnWire.data.toList.drop 24 = dktX2_turnWire_1 := dk_seg dksX2_turnWire_0 24 rfl rfl
theorem dX2_turnWire_0 : decode cX2_turnWire 0 = .ok (.aload_n 0, 1) := dk_42 (dk_at dksX2_turnWire_0 0 rfl rfl)
theorem dX2_turnWire_1 : decode cX2_turnWire 1 = .ok (.aload_n 0, 1) := dk_42 (dk_at dksX2_turnWire_0 1 rfl rfl)
theorem dX2_turnWire_2 : decode cX2_turnWire 2 = .ok (.getfield 56, 3) := dk_180 0 56 (dk_at dksX2_turnWire_0 2 rfl rfl)
theorem dX2_turnWire_5 : decode cX2_turnWire 5 = .ok (.aload_n 0, 1) := dk_42 (dk_at dksX2_turnWire_0 5 rfl rfl)
theorem dX2_turnWire_6 : decode cX2_turnWire 6 = .ok (.iload_n 1, 1) := dk_27 (dk_at dksX2_turnWire_0 6 rfl rfl)
theorem dX2_turnWire_7 : decode cX2_turnWire 7 = .ok (.invokevirtual 385, 3) := dk_182 1 129 (dk_at dksX2_turnWire_0 7 rfl rfl)
theorem dX2_turnWire_10 : decode cX2_turnWire 10 = .ok (.invokevirtual 293, 3) := dk_182 1 37 (dk_at dksX2_turnWire_0 10 rfl rfl)
theorem dX2_turnWire_13 : decode cX2_turnWire 13 = .ok (.ifCond .ne 5, 3) := dk_154 0 5 (dk_at dksX2_turnWire_0 13 rfl rfl)
theorem dX2_turnWire_16 : decode cX2_turnWire 16 = .ok (.iconst 0, 1) := dk_3 (dk_at dksX2_turnWire_0 16 rfl rfl)
theorem dX2_turnWire_17 : decode cX2_turnWire 17 = .ok (.ireturn, 1) := dk_172 (dk_at dksX2_turnWire_0 17 rfl rfl)
theorem dX2_turnWire_18 : decode cX2_turnWire 18 = .ok (.aload_n 0, 1) := dk_42 (dk_at dksX2_turnWire_0 18 rfl rfl)
theorem dX2_turnWire_19 : decode cX2_turnWire 19 = .ok (.invokevirtual 428, 3) := dk_182 1 172 (dk_at dksX2_turnWire_0 19 rfl rfl)
theorem dX2_turnWire_22 : decode cX2_turnWire 22 = .ok (.aload_n 0, 1) := dk_42 (dk_at dksX2_turnWire_0 22 rfl rfl)
theorem dX2_turnWire_23 : decode cX2_turnWire 23 = .ok (.iload_n 1, 1) := dk_27 (dk_at dksX2_turnWire_0 23 rfl rfl)
theorem dX2_turnWire_24 : decode cX2_turnWire 24 = .ok (.iconst 2, 1) := dk_5 (dk_at dksX2_turnWire_1 0 rfl rfl)
theorem dX2_turnWire_25 : decode cX2_turnWire 25 = .ok (.iconst 1, 1) := dk_4 (dk_at dksX2_turnWire_1 1 rfl rfl)
theorem dX2_turnWire_26 : decode cX2_turnWire 26 = .ok (.aload_n 0, 1) := dk_42 (dk_at dksX2_turnWire_1 2 rfl rfl)
theorem dX2_turnWire_27 : decode cX2_turnWire 27 = .ok (.iload_n 1, 1) := dk_27 (dk_at dksX2_turnWire_1 3 rfl rfl)
theorem dX2_turnWire_28 : decode cX2_turnWire 28 = .ok (.iconst 2, 1) := dk_5 (dk_at dksX2_turnWire_1 4 rfl rfl)
theorem dX2_turnWire_29 : decode cX2_turnWire 29 = .ok (.invokevirtual 134, 3) := dk_182 0 134 (dk_at dksX2_turnWire_1 5 rfl rfl)
theorem dX2_turnWire_32 : decode cX2_turnWire 32 = .ok (.isub, 1) := dk_100 (dk_at dksX2_turnWire_1 8 rfl rfl)
theorem dX2_turnWire_33 : decode cX2_turnWire 33 = .ok (.invokevirtual 137, 3) := dk_182 0 137 (dk_at dksX2_turnWire_1 9 rfl rfl)
theorem dX2_turnWire_36 : decode cX2_turnWire 36 = .ok (.aload_n 0, 1) := dk_42 (dk_at dksX2_turnWire_1 12 rfl rfl)
theorem dX2_turnWire_37 : decode cX2_turnWire 37 = .ok (.iload_n 1, 1) := dk_27 (dk_at dksX2_turnWire_1 13 rfl rfl)
theorem dX2_turnWire_38 : decode cX2_turnWire 38 = .ok (.iconst 2, 1) := dk_5 (dk_at dksX2_turnWire_1 14 rfl rfl)
theorem dX2_turnWire_39 : decode cX2_turnWire 39 = .ok (.invokevirtual 134, 3) := dk_182 0 134 (dk_at dksX2_turnWire_1 15 rfl rfl)
theorem dX2_turnWire_42 : decode cX2_turnWire 42 = .ok (.ireturn, 1) := dk_172 (dk_at dksX2_turnWire_1 18 rfl rfl)
abbrev cX2_setAsks : ByteArray := prog_12_method_160_code
def yX2_setAsks : MethodName := ⟨RX2, "setAsks", "(I)I"⟩
def dkwX2_setAsks_1 : List UInt8 := [180, 0, 9, 4, 46, 61, 42, 180, 0, 9, 4, 27, 79, 28, 172]
abbrev dktX2_setAsks_1 : List UInt8 := dkwX2_setAsks_1 ++ []
def dkwX2_setAsks_0 : List UInt8 := [42, 42, 180, 0, 56, 27, 3, 8, 184, 0, 77, 182, 1, 37, 154, 0, 5, 3, 172, 42, 182, 1, 172, 42]
abbrev dktX2_setAsks_0 : List UInt8 := dkwX2_setAsks_0 ++ dktX2_setAsks_1
theorem dksX2_setAsks_0 : cX2_setAsks.data.toList.drop 0 = dktX2_setAsks_0 := by decide +kernel
theorem dksX2_setAsks_1 : cX2_setAsks.data.toList.drop 24 = dktX2_setAsks_1 := dk_seg dksX2_setAsks_0 24 rfl rfl
theorem dX2_setAsks_0 : decode cX2_setAsks 0 = .ok (.aload_n 0, 1) := dk_42 (dk_at dksX2_setAsks_0 0 rfl rfl)
theorem dX2_setAsks_1 : decode cX2_setAsks 1 = .ok (.aload_n 0, 1) := dk_42 (dk_at dksX2_setAsks_0 1 rfl rfl)
theorem dX2_setAsks_2 : decode cX2_setAsks 2 = .ok (.getfield 56, 3) := dk_180 0 56 (dk_at dksX2_setAsks_0 2 rfl rfl)
theorem dX2_setAsks_5 : decode cX2_setAsks 5 = .ok (.iload_n 1, 1) := dk_27 (dk_at dksX2_setAsks_0 5 rfl rfl)
theorem dX2_setAsks_6 : decode cX2_setAsks 6 = .ok (.iconst 0, 1) := dk_3 (dk_at dksX2_setAsks_0 6 rfl rfl)
theorem dX2_setAsks_7 : decode cX2_setAsks 7 = .ok (.iconst 5, 1) := dk_8 (dk_at dksX2_setAsks_0 7 rfl rfl)
theorem dX2_setAsks_8 : decode cX2_setAsks 8 = .ok (.invokestatic 77, 3) := dk_184 0 77 (dk_at dksX2_setAsks_0 8 rfl rfl)
theorem dX2_setAsks_11 : decode cX2_setAsks 11 = .ok (.invokevirtual 293, 3) := dk_182 1 37 (dk_at dksX2_setAsks_0 11 rfl rfl)
theorem dX2_setAsks_14 : decode cX2_setAsks 14 = .ok (.ifCond .ne 5, 3) := dk_154 0 5 (dk_at dksX2_setAsks_0 14 rfl rfl)
theorem dX2_setAsks_17 : decode cX2_setAsks 17 = .ok (.iconst 0, 1) := dk_3 (dk_at dksX2_setAsks_0 17 rfl rfl)
theorem dX2_setAsks_18 : decode cX2_setAsks 18 = .ok (.ireturn, 1) := dk_172 (dk_at dksX2_setAsks_0 18 rfl rfl)
theorem dX2_setAsks_19 : decode cX2_setAsks 19 = .ok (.aload_n 0, 1) := dk_42 (dk_at dksX2_setAsks_0 19 rfl rfl)
theorem dX2_setAsks_20 : decode cX2_setAsks 20 = .ok (.invokevirtual 428, 3) := dk_182 1 172 (dk_at dksX2_setAsks_0 20 rfl rfl)
theorem dX2_setAsks_23 : decode cX2_setAsks 23 = .ok (.aload_n 0, 1) := dk_42 (dk_at dksX2_setAsks_0 23 rfl rfl)
theorem dX2_setAsks_24 : decode cX2_setAsks 24 = .ok (.getfield 9, 3) := dk_180 0 9 (dk_at dksX2_setAsks_1 0 rfl rfl)
theorem dX2_setAsks_27 : decode cX2_setAsks 27 = .ok (.iconst 1, 1) := dk_4 (dk_at dksX2_setAsks_1 3 rfl rfl)
theorem dX2_setAsks_28 : decode cX2_setAsks 28 = .ok (.iaload, 1) := dk_46 (dk_at dksX2_setAsks_1 4 rfl rfl)
theorem dX2_setAsks_29 : decode cX2_setAsks 29 = .ok (.istore_n 2, 1) := dk_61 (dk_at dksX2_setAsks_1 5 rfl rfl)
theorem dX2_setAsks_30 : decode cX2_setAsks 30 = .ok (.aload_n 0, 1) := dk_42 (dk_at dksX2_setAsks_1 6 rfl rfl)
theorem dX2_setAsks_31 : decode cX2_setAsks 31 = .ok (.getfield 9, 3) := dk_180 0 9 (dk_at dksX2_setAsks_1 7 rfl rfl)
theorem dX2_setAsks_34 : decode cX2_setAsks 34 = .ok (.iconst 1, 1) := dk_4 (dk_at dksX2_setAsks_1 10 rfl rfl)
theorem dX2_setAsks_35 : decode cX2_setAsks 35 = .ok (.iload_n 1, 1) := dk_27 (dk_at dksX2_setAsks_1 11 rfl rfl)
theorem dX2_setAsks_36 : decode cX2_setAsks 36 = .ok (.iastore, 1) := dk_79 (dk_at dksX2_setAsks_1 12 rfl rfl)
theorem dX2_setAsks_37 : decode cX2_setAsks 37 = .ok (.iload_n 2, 1) := dk_28 (dk_at dksX2_setAsks_1 13 rfl rfl)
theorem dX2_setAsks_38 : decode cX2_setAsks 38 = .ok (.ireturn, 1) := dk_172 (dk_at dksX2_setAsks_1 14 rfl rfl)
abbrev cX2_drop : ByteArray := prog_12_method_162_code
def yX2_drop : MethodName := ⟨RX2, "drop", "(I)I"⟩
def dkwX2_drop_2 : List UInt8 := [180, 0, 9, 6, 46, 172]
abbrev dktX2_drop_2 : List UInt8 := dkwX2_drop_2 ++ []
def dkwX2_drop_1 : List UInt8 := [4, 167, 0, 4, 3, 182, 0, 52, 154, 0, 5, 3, 172, 42, 182, 1, 172, 42, 27, 182, 0, 149, 42]
abbrev dktX2_drop_1 : List UInt8 := dkwX2_drop_1 ++ dktX2_drop_2
def dkwX2_drop_0 : List UInt8 := [42, 27, 182, 1, 47, 61, 42, 42, 180, 0, 56, 28, 28, 153, 0, 15, 42, 27, 182, 0, 146, 154, 0, 7]
abbrev dktX2_drop_0 : List UInt8 := dkwX2_drop_0 ++ dktX2_drop_1
theorem dksX2_drop_0 : cX2_drop.data.toList.drop 0 = dktX2_drop_0 := by decide +kernel
theorem dksX2_drop_1 : cX2_drop.data.toList.drop 24 = dktX2_drop_1 := dk_seg dksX2_drop_0 24 rfl rfl
theorem dksX2_drop_2 : cX2_drop.data.toList.drop 47 = dktX2_drop_2 := dk_seg dksX2_drop_1 23 rfl rfl
theorem dX2_drop_0 : decode cX2_drop 0 = .ok (.aload_n 0, 1) := dk_42 (dk_at dksX2_drop_0 0 rfl rfl)
theorem dX2_drop_1 : decode cX2_drop 1 = .ok (.iload_n 1, 1) := dk_27 (dk_at dksX2_drop_0 1 rfl rfl)
theorem dX2_drop_2 : decode cX2_drop 2 = .ok (.invokevirtual 303, 3) := dk_182 1 47 (dk_at dksX2_drop_0 2 rfl rfl)
theorem dX2_drop_5 : decode cX2_drop 5 = .ok (.istore_n 2, 1) := dk_61 (dk_at dksX2_drop_0 5 rfl rfl)
theorem dX2_drop_6 : decode cX2_drop 6 = .ok (.aload_n 0, 1) := dk_42 (dk_at dksX2_drop_0 6 rfl rfl)
theorem dX2_drop_7 : decode cX2_drop 7 = .ok (.aload_n 0, 1) := dk_42 (dk_at dksX2_drop_0 7 rfl rfl)
theorem dX2_drop_8 : decode cX2_drop 8 = .ok (.getfield 56, 3) := dk_180 0 56 (dk_at dksX2_drop_0 8 rfl rfl)
theorem dX2_drop_11 : decode cX2_drop 11 = .ok (.iload_n 2, 1) := dk_28 (dk_at dksX2_drop_0 11 rfl rfl)
theorem dX2_drop_12 : decode cX2_drop 12 = .ok (.iload_n 2, 1) := dk_28 (dk_at dksX2_drop_0 12 rfl rfl)
theorem dX2_drop_13 : decode cX2_drop 13 = .ok (.ifCond .eq 15, 3) := dk_153 0 15 (dk_at dksX2_drop_0 13 rfl rfl)
theorem dX2_drop_16 : decode cX2_drop 16 = .ok (.aload_n 0, 1) := dk_42 (dk_at dksX2_drop_0 16 rfl rfl)
theorem dX2_drop_17 : decode cX2_drop 17 = .ok (.iload_n 1, 1) := dk_27 (dk_at dksX2_drop_0 17 rfl rfl)
theorem dX2_drop_18 : decode cX2_drop 18 = .ok (.invokevirtual 146, 3) := dk_182 0 146 (dk_at dksX2_drop_0 18 rfl rfl)
theorem dX2_drop_21 : decode cX2_drop 21 = .ok (.ifCond .ne 7, 3) := dk_154 0 7 (dk_at dksX2_drop_0 21 rfl rfl)
theorem dX2_drop_24 : decode cX2_drop 24 = .ok (.iconst 1, 1) := dk_4 (dk_at dksX2_drop_1 0 rfl rfl)
theorem dX2_drop_25 : decode cX2_drop 25 = .ok (.goto 4, 3) := dk_167 0 4 (dk_at dksX2_drop_1 1 rfl rfl)
theorem dX2_drop_28 : decode cX2_drop 28 = .ok (.iconst 0, 1) := dk_3 (dk_at dksX2_drop_1 4 rfl rfl)
theorem dX2_drop_29 : decode cX2_drop 29 = .ok (.invokevirtual 52, 3) := dk_182 0 52 (dk_at dksX2_drop_1 5 rfl rfl)
theorem dX2_drop_32 : decode cX2_drop 32 = .ok (.ifCond .ne 5, 3) := dk_154 0 5 (dk_at dksX2_drop_1 8 rfl rfl)
theorem dX2_drop_35 : decode cX2_drop 35 = .ok (.iconst 0, 1) := dk_3 (dk_at dksX2_drop_1 11 rfl rfl)
theorem dX2_drop_36 : decode cX2_drop 36 = .ok (.ireturn, 1) := dk_172 (dk_at dksX2_drop_1 12 rfl rfl)
theorem dX2_drop_37 : decode cX2_drop 37 = .ok (.aload_n 0, 1) := dk_42 (dk_at dksX2_drop_1 13 rfl rfl)
theorem dX2_drop_38 : decode cX2_drop 38 = .ok (.invokevirtual 428, 3) := dk_182 1 172 (dk_at dksX2_drop_1 14 rfl rfl)
theorem dX2_drop_41 : decode cX2_drop 41 = .ok (.aload_n 0, 1) := dk_42 (dk_at dksX2_drop_1 17 rfl rfl)
theorem dX2_drop_42 : decode cX2_drop 42 = .ok (.iload_n 1, 1) := dk_27 (dk_at dksX2_drop_1 18 rfl rfl)
theorem dX2_drop_43 : decode cX2_drop 43 = .ok (.invokevirtual 149, 3) := dk_182 0 149 (dk_at dksX2_drop_1 19 rfl rfl)
theorem dX2_drop_46 : decode cX2_drop 46 = .ok (.aload_n 0, 1) := dk_42 (dk_at dksX2_drop_1 22 rfl rfl)
theorem dX2_drop_47 : decode cX2_drop 47 = .ok (.getfield 9, 3) := dk_180 0 9 (dk_at dksX2_drop_2 0 rfl rfl)
theorem dX2_drop_50 : decode cX2_drop 50 = .ok (.iconst 3, 1) := dk_6 (dk_at dksX2_drop_2 3 rfl rfl)
theorem dX2_drop_51 : decode cX2_drop 51 = .ok (.iaload, 1) := dk_46 (dk_at dksX2_drop_2 4 rfl rfl)
theorem dX2_drop_52 : decode cX2_drop 52 = .ok (.ireturn, 1) := dk_172 (dk_at dksX2_drop_2 5 rfl rfl)
abbrev cX2_undo : ByteArray := prog_12_method_164_code
def yX2_undo : MethodName := ⟨RX2, "undo", "()I"⟩
def dkwX2_undo_2 : List UInt8 := [180, 0, 9, 3, 184, 0, 60, 42, 180, 0, 229, 172]
abbrev dktX2_undo_2 : List UInt8 := dkwX2_undo_2 ++ []
def dkwX2_undo_1 : List UInt8 := [89, 180, 0, 229, 4, 100, 181, 0, 229, 42, 180, 0, 16, 42, 180, 0, 229, 17, 6, 40, 104, 42]
abbrev dktX2_undo_1 : List UInt8 := dkwX2_undo_1 ++ dktX2_undo_2
def dkwX2_undo_0 : List UInt8 := [42, 42, 180, 0, 229, 158, 0, 7, 4, 167, 0, 4, 3, 4, 4, 182, 0, 52, 154, 0, 5, 3, 172, 42]
abbrev dktX2_undo_0 : List UInt8 := dkwX2_undo_0 ++ dktX2_undo_1
theorem dksX2_undo_0 : cX2_undo.data.toList.drop 0 = dktX2_undo_0 := by decide +kernel
theorem dksX2_undo_1 : cX2_undo.data.toList.drop 24 = dktX2_undo_1 := dk_seg dksX2_undo_0 24 rfl rfl
theorem dksX2_undo_2 : cX2_undo.data.toList.drop 46 = dktX2_undo_2 := dk_seg dksX2_undo_1 22 rfl rfl
theorem dX2_undo_0 : decode cX2_undo 0 = .ok (.aload_n 0, 1) := dk_42 (dk_at dksX2_undo_0 0 rfl rfl)
theorem dX2_undo_1 : decode cX2_undo 1 = .ok (.aload_n 0, 1) := dk_42 (dk_at dksX2_undo_0 1 rfl rfl)
theorem dX2_undo_2 : decode cX2_undo 2 = .ok (.getfield 229, 3) := dk_180 0 229 (dk_at dksX2_undo_0 2 rfl rfl)
theorem dX2_undo_5 : decode cX2_undo 5 = .ok (.ifCond .le 7, 3) := dk_158 0 7 (dk_at dksX2_undo_0 5 rfl rfl)
theorem dX2_undo_8 : decode cX2_undo 8 = .ok (.iconst 1, 1) := dk_4 (dk_at dksX2_undo_0 8 rfl rfl)
theorem dX2_undo_9 : decode cX2_undo 9 = .ok (.goto 4, 3) := dk_167 0 4 (dk_at dksX2_undo_0 9 rfl rfl)
theorem dX2_undo_12 : decode cX2_undo 12 = .ok (.iconst 0, 1) := dk_3 (dk_at dksX2_undo_0 12 rfl rfl)
theorem dX2_undo_13 : decode cX2_undo 13 = .ok (.iconst 1, 1) := dk_4 (dk_at dksX2_undo_0 13 rfl rfl)
theorem dX2_undo_14 : decode cX2_undo 14 = .ok (.iconst 1, 1) := dk_4 (dk_at dksX2_undo_0 14 rfl rfl)
theorem dX2_undo_15 : decode cX2_undo 15 = .ok (.invokevirtual 52, 3) := dk_182 0 52 (dk_at dksX2_undo_0 15 rfl rfl)
theorem dX2_undo_18 : decode cX2_undo 18 = .ok (.ifCond .ne 5, 3) := dk_154 0 5 (dk_at dksX2_undo_0 18 rfl rfl)
theorem dX2_undo_21 : decode cX2_undo 21 = .ok (.iconst 0, 1) := dk_3 (dk_at dksX2_undo_0 21 rfl rfl)
theorem dX2_undo_22 : decode cX2_undo 22 = .ok (.ireturn, 1) := dk_172 (dk_at dksX2_undo_0 22 rfl rfl)
theorem dX2_undo_23 : decode cX2_undo 23 = .ok (.aload_n 0, 1) := dk_42 (dk_at dksX2_undo_0 23 rfl rfl)
theorem dX2_undo_24 : decode cX2_undo 24 = .ok (.dup, 1) := dk_89 (dk_at dksX2_undo_1 0 rfl rfl)
theorem dX2_undo_25 : decode cX2_undo 25 = .ok (.getfield 229, 3) := dk_180 0 229 (dk_at dksX2_undo_1 1 rfl rfl)
theorem dX2_undo_28 : decode cX2_undo 28 = .ok (.iconst 1, 1) := dk_4 (dk_at dksX2_undo_1 4 rfl rfl)
theorem dX2_undo_29 : decode cX2_undo 29 = .ok (.isub, 1) := dk_100 (dk_at dksX2_undo_1 5 rfl rfl)
theorem dX2_undo_30 : decode cX2_undo 30 = .ok (.putfield 229, 3) := dk_181 0 229 (dk_at dksX2_undo_1 6 rfl rfl)
theorem dX2_undo_33 : decode cX2_undo 33 = .ok (.aload_n 0, 1) := dk_42 (dk_at dksX2_undo_1 9 rfl rfl)
theorem dX2_undo_34 : decode cX2_undo 34 = .ok (.getfield 16, 3) := dk_180 0 16 (dk_at dksX2_undo_1 10 rfl rfl)
theorem dX2_undo_37 : decode cX2_undo 37 = .ok (.aload_n 0, 1) := dk_42 (dk_at dksX2_undo_1 13 rfl rfl)
theorem dX2_undo_38 : decode cX2_undo 38 = .ok (.getfield 229, 3) := dk_180 0 229 (dk_at dksX2_undo_1 14 rfl rfl)
theorem dX2_undo_41 : decode cX2_undo 41 = .ok (.sipush 1576, 3) := dk_17 6 40 (dk_at dksX2_undo_1 17 rfl rfl)
theorem dX2_undo_44 : decode cX2_undo 44 = .ok (.imul, 1) := dk_104 (dk_at dksX2_undo_1 20 rfl rfl)
theorem dX2_undo_45 : decode cX2_undo 45 = .ok (.aload_n 0, 1) := dk_42 (dk_at dksX2_undo_1 21 rfl rfl)
theorem dX2_undo_46 : decode cX2_undo 46 = .ok (.getfield 9, 3) := dk_180 0 9 (dk_at dksX2_undo_2 0 rfl rfl)
theorem dX2_undo_49 : decode cX2_undo 49 = .ok (.iconst 0, 1) := dk_3 (dk_at dksX2_undo_2 3 rfl rfl)
theorem dX2_undo_50 : decode cX2_undo 50 = .ok (.invokestatic 60, 3) := dk_184 0 60 (dk_at dksX2_undo_2 4 rfl rfl)
theorem dX2_undo_53 : decode cX2_undo 53 = .ok (.aload_n 0, 1) := dk_42 (dk_at dksX2_undo_2 7 rfl rfl)
theorem dX2_undo_54 : decode cX2_undo 54 = .ok (.getfield 229, 3) := dk_180 0 229 (dk_at dksX2_undo_2 8 rfl rfl)
theorem dX2_undo_57 : decode cX2_undo 57 = .ok (.ireturn, 1) := dk_172 (dk_at dksX2_undo_2 11 rfl rfl)
abbrev cX2_undoable : ByteArray := prog_12_method_165_code
def yX2_undoable : MethodName := ⟨RX2, "undoable", "()I"⟩
def dkwX2_undoable_0 : List UInt8 := [42, 3, 181, 0, 49, 42, 180, 0, 229, 172]
abbrev dktX2_undoable_0 : List UInt8 := dkwX2_undoable_0 ++ []
theorem dksX2_undoable_0 : cX2_undoable.data.toList.drop 0 = dktX2_undoable_0 := by decide +kernel
theorem dX2_undoable_0 : decode cX2_undoable 0 = .ok (.aload_n 0, 1) := dk_42 (dk_at dksX2_undoable_0 0 rfl rfl)
theorem dX2_undoable_1 : decode cX2_undoable 1 = .ok (.iconst 0, 1) := dk_3 (dk_at dksX2_undoable_0 1 rfl rfl)
theorem dX2_undoable_2 : decode cX2_undoable 2 = .ok (.putfield 49, 3) := dk_181 0 49 (dk_at dksX2_undoable_0 2 rfl rfl)
theorem dX2_undoable_5 : decode cX2_undoable 5 = .ok (.aload_n 0, 1) := dk_42 (dk_at dksX2_undoable_0 5 rfl rfl)
theorem dX2_undoable_6 : decode cX2_undoable 6 = .ok (.getfield 229, 3) := dk_180 0 229 (dk_at dksX2_undoable_0 6 rfl rfl)
theorem dX2_undoable_9 : decode cX2_undoable 9 = .ok (.ireturn, 1) := dk_172 (dk_at dksX2_undoable_0 9 rfl rfl)
abbrev cX2_save : ByteArray := prog_12_method_167_code
def yX2_save : MethodName := ⟨RX2, "save", "(I)I"⟩
def dkwX2_save_2 : List UInt8 := [172]
abbrev dktX2_save_2 : List UInt8 := dkwX2_save_2 ++ []
def dkwX2_save_1 : List UInt8 := [180, 0, 19, 27, 17, 6, 40, 104, 184, 0, 60, 42, 180, 0, 22, 27, 4, 84, 42, 180, 0, 9, 5, 46]
abbrev dktX2_save_1 : List UInt8 := dkwX2_save_1 ++ dktX2_save_2
def dkwX2_save_0 : List UInt8 := [42, 42, 180, 0, 56, 27, 184, 1, 178, 182, 1, 37, 154, 0, 5, 3, 172, 42, 180, 0, 9, 3, 42]
abbrev dktX2_save_0 : List UInt8 := dkwX2_save_0 ++ dktX2_save_1
theorem dksX2_save_0 : cX2_save.data.toList.drop 0 = dktX2_save_0 := by decide +kernel
theorem dksX2_save_1 : cX2_save.data.toList.drop 23 = dktX2_save_1 := dk_seg dksX2_save_0 23 rfl rfl
theorem dksX2_save_2 : cX2_save.data.toList.drop 47 = dktX2_save_2 := dk_seg dksX2_save_1 24 rfl rfl
theorem dX2_save_0 : decode cX2_save 0 = .ok (.aload_n 0, 1) := dk_42 (dk_at dksX2_save_0 0 rfl rfl)
theorem dX2_save_1 : decode cX2_save 1 = .ok (.aload_n 0, 1) := dk_42 (dk_at dksX2_save_0 1 rfl rfl)
theorem dX2_save_2 : decode cX2_save 2 = .ok (.getfield 56, 3) := dk_180 0 56 (dk_at dksX2_save_0 2 rfl rfl)
theorem dX2_save_5 : decode cX2_save 5 = .ok (.iload_n 1, 1) := dk_27 (dk_at dksX2_save_0 5 rfl rfl)
theorem dX2_save_6 : decode cX2_save 6 = .ok (.invokestatic 434, 3) := dk_184 1 178 (dk_at dksX2_save_0 6 rfl rfl)
theorem dX2_save_9 : decode cX2_save 9 = .ok (.invokevirtual 293, 3) := dk_182 1 37 (dk_at dksX2_save_0 9 rfl rfl)
theorem dX2_save_12 : decode cX2_save 12 = .ok (.ifCond .ne 5, 3) := dk_154 0 5 (dk_at dksX2_save_0 12 rfl rfl)
theorem dX2_save_15 : decode cX2_save 15 = .ok (.iconst 0, 1) := dk_3 (dk_at dksX2_save_0 15 rfl rfl)
theorem dX2_save_16 : decode cX2_save 16 = .ok (.ireturn, 1) := dk_172 (dk_at dksX2_save_0 16 rfl rfl)
theorem dX2_save_17 : decode cX2_save 17 = .ok (.aload_n 0, 1) := dk_42 (dk_at dksX2_save_0 17 rfl rfl)
theorem dX2_save_18 : decode cX2_save 18 = .ok (.getfield 9, 3) := dk_180 0 9 (dk_at dksX2_save_0 18 rfl rfl)
theorem dX2_save_21 : decode cX2_save 21 = .ok (.iconst 0, 1) := dk_3 (dk_at dksX2_save_0 21 rfl rfl)
theorem dX2_save_22 : decode cX2_save 22 = .ok (.aload_n 0, 1) := dk_42 (dk_at dksX2_save_0 22 rfl rfl)
theorem dX2_save_23 : decode cX2_save 23 = .ok (.getfield 19, 3) := dk_180 0 19 (dk_at dksX2_save_1 0 rfl rfl)
theorem dX2_save_26 : decode cX2_save 26 = .ok (.iload_n 1, 1) := dk_27 (dk_at dksX2_save_1 3 rfl rfl)
theorem dX2_save_27 : decode cX2_save 27 = .ok (.sipush 1576, 3) := dk_17 6 40 (dk_at dksX2_save_1 4 rfl rfl)
theorem dX2_save_30 : decode cX2_save 30 = .ok (.imul, 1) := dk_104 (dk_at dksX2_save_1 7 rfl rfl)
theorem dX2_save_31 : decode cX2_save 31 = .ok (.invokestatic 60, 3) := dk_184 0 60 (dk_at dksX2_save_1 8 rfl rfl)
theorem dX2_save_34 : decode cX2_save 34 = .ok (.aload_n 0, 1) := dk_42 (dk_at dksX2_save_1 11 rfl rfl)
theorem dX2_save_35 : decode cX2_save 35 = .ok (.getfield 22, 3) := dk_180 0 22 (dk_at dksX2_save_1 12 rfl rfl)
theorem dX2_save_38 : decode cX2_save 38 = .ok (.iload_n 1, 1) := dk_27 (dk_at dksX2_save_1 15 rfl rfl)
theorem dX2_save_39 : decode cX2_save 39 = .ok (.iconst 1, 1) := dk_4 (dk_at dksX2_save_1 16 rfl rfl)
theorem dX2_save_40 : decode cX2_save 40 = .ok (.bastore, 1) := dk_84 (dk_at dksX2_save_1 17 rfl rfl)
theorem dX2_save_41 : decode cX2_save 41 = .ok (.aload_n 0, 1) := dk_42 (dk_at dksX2_save_1 18 rfl rfl)
theorem dX2_save_42 : decode cX2_save 42 = .ok (.getfield 9, 3) := dk_180 0 9 (dk_at dksX2_save_1 19 rfl rfl)
theorem dX2_save_45 : decode cX2_save 45 = .ok (.iconst 2, 1) := dk_5 (dk_at dksX2_save_1 22 rfl rfl)
theorem dX2_save_46 : decode cX2_save 46 = .ok (.iaload, 1) := dk_46 (dk_at dksX2_save_1 23 rfl rfl)
theorem dX2_save_47 : decode cX2_save 47 = .ok (.ireturn, 1) := dk_172 (dk_at dksX2_save_2 0 rfl rfl)
abbrev cX2_isSlot : ByteArray := prog_12_method_166_code
def yX2_isSlot : MethodName := ⟨RX2, "isSlot", "(I)Z"⟩
def dkwX2_isSlot_0 : List UInt8 := [26, 3, 4, 184, 0, 77, 172]
abbrev dktX2_isSlot_0 : List UInt8 := dkwX2_isSlot_0 ++ []
theorem dksX2_isSlot_0 : cX2_isSlot.data.toList.drop 0 = dktX2_isSlot_0 := by decide +kernel
theorem dX2_isSlot_0 : decode cX2_isSlot 0 = .ok (.iload_n 0, 1) := dk_26 (dk_at dksX2_isSlot_0 0 rfl rfl)
theorem dX2_isSlot_1 : decode cX2_isSlot 1 = .ok (.iconst 0, 1) := dk_3 (dk_at dksX2_isSlot_0 1 rfl rfl)
theorem dX2_isSlot_2 : decode cX2_isSlot 2 = .ok (.iconst 1, 1) := dk_4 (dk_at dksX2_isSlot_0 2 rfl rfl)
theorem dX2_isSlot_3 : decode cX2_isSlot 3 = .ok (.invokestatic 77, 3) := dk_184 0 77 (dk_at dksX2_isSlot_0 3 rfl rfl)
theorem dX2_isSlot_6 : decode cX2_isSlot 6 = .ok (.ireturn, 1) := dk_172 (dk_at dksX2_isSlot_0 6 rfl rfl)
abbrev cX2_restore : ByteArray := prog_12_method_168_code
def yX2_restore : MethodName := ⟨RX2, "restore", "(I)I"⟩
def dkwX2_restore_2 : List UInt8 := [184, 0, 60, 42, 3, 181, 0, 229, 42, 180, 0, 9, 5, 46, 172]
abbrev dktX2_restore_2 : List UInt8 := dkwX2_restore_2 ++ []
def dkwX2_restore_1 : List UInt8 := [3, 182, 1, 37, 154, 0, 5, 3, 172, 42, 180, 0, 19, 27, 17, 6, 40, 104, 42, 180, 0, 9, 3]
abbrev dktX2_restore_1 : List UInt8 := dkwX2_restore_1 ++ dktX2_restore_2
def dkwX2_restore_0 : List UInt8 := [27, 184, 1, 178, 61, 42, 28, 28, 153, 0, 16, 42, 180, 0, 22, 27, 51, 153, 0, 7, 4, 167, 0, 4]
abbrev dktX2_restore_0 : List UInt8 := dkwX2_restore_0 ++ dktX2_restore_1
theorem dksX2_restore_0 : cX2_restore.data.toList.drop 0 = dktX2_restore_0 := by decide +kernel
theorem dksX2_restore_1 : cX2_restore.data.toList.drop 24 = dktX2_restore_1 := dk_seg dksX2_restore_0 24 rfl rfl
theorem dksX2_restore_2 : cX2_restore.data.toList.drop 47 = dktX2_restore_2 := dk_seg dksX2_restore_1 23 rfl rfl
theorem dX2_restore_0 : decode cX2_restore 0 = .ok (.iload_n 1, 1) := dk_27 (dk_at dksX2_restore_0 0 rfl rfl)
theorem dX2_restore_1 : decode cX2_restore 1 = .ok (.invokestatic 434, 3) := dk_184 1 178 (dk_at dksX2_restore_0 1 rfl rfl)
theorem dX2_restore_4 : decode cX2_restore 4 = .ok (.istore_n 2, 1) := dk_61 (dk_at dksX2_restore_0 4 rfl rfl)
theorem dX2_restore_5 : decode cX2_restore 5 = .ok (.aload_n 0, 1) := dk_42 (dk_at dksX2_restore_0 5 rfl rfl)
theorem dX2_restore_6 : decode cX2_restore 6 = .ok (.iload_n 2, 1) := dk_28 (dk_at dksX2_restore_0 6 rfl rfl)
theorem dX2_restore_7 : decode cX2_restore 7 = .ok (.iload_n 2, 1) := dk_28 (dk_at dksX2_restore_0 7 rfl rfl)
theorem dX2_restore_8 : decode cX2_restore 8 = .ok (.ifCond .eq 16, 3) := dk_153 0 16 (dk_at dksX2_restore_0 8 rfl rfl)
theorem dX2_restore_11 : decode cX2_restore 11 = .ok (.aload_n 0, 1) := dk_42 (dk_at dksX2_restore_0 11 rfl rfl)
theorem dX2_restore_12 : decode cX2_restore 12 = .ok (.getfield 22, 3) := dk_180 0 22 (dk_at dksX2_restore_0 12 rfl rfl)
theorem dX2_restore_15 : decode cX2_restore 15 = .ok (.iload_n 1, 1) := dk_27 (dk_at dksX2_restore_0 15 rfl rfl)
theorem dX2_restore_16 : decode cX2_restore 16 = .ok (.baload, 1) := dk_51 (dk_at dksX2_restore_0 16 rfl rfl)
theorem dX2_restore_17 : decode cX2_restore 17 = .ok (.ifCond .eq 7, 3) := dk_153 0 7 (dk_at dksX2_restore_0 17 rfl rfl)
theorem dX2_restore_20 : decode cX2_restore 20 = .ok (.iconst 1, 1) := dk_4 (dk_at dksX2_restore_0 20 rfl rfl)
theorem dX2_restore_21 : decode cX2_restore 21 = .ok (.goto 4, 3) := dk_167 0 4 (dk_at dksX2_restore_0 21 rfl rfl)
theorem dX2_restore_24 : decode cX2_restore 24 = .ok (.iconst 0, 1) := dk_3 (dk_at dksX2_restore_1 0 rfl rfl)
theorem dX2_restore_25 : decode cX2_restore 25 = .ok (.invokevirtual 293, 3) := dk_182 1 37 (dk_at dksX2_restore_1 1 rfl rfl)
theorem dX2_restore_28 : decode cX2_restore 28 = .ok (.ifCond .ne 5, 3) := dk_154 0 5 (dk_at dksX2_restore_1 4 rfl rfl)
theorem dX2_restore_31 : decode cX2_restore 31 = .ok (.iconst 0, 1) := dk_3 (dk_at dksX2_restore_1 7 rfl rfl)
theorem dX2_restore_32 : decode cX2_restore 32 = .ok (.ireturn, 1) := dk_172 (dk_at dksX2_restore_1 8 rfl rfl)
theorem dX2_restore_33 : decode cX2_restore 33 = .ok (.aload_n 0, 1) := dk_42 (dk_at dksX2_restore_1 9 rfl rfl)
theorem dX2_restore_34 : decode cX2_restore 34 = .ok (.getfield 19, 3) := dk_180 0 19 (dk_at dksX2_restore_1 10 rfl rfl)
theorem dX2_restore_37 : decode cX2_restore 37 = .ok (.iload_n 1, 1) := dk_27 (dk_at dksX2_restore_1 13 rfl rfl)
theorem dX2_restore_38 : decode cX2_restore 38 = .ok (.sipush 1576, 3) := dk_17 6 40 (dk_at dksX2_restore_1 14 rfl rfl)
theorem dX2_restore_41 : decode cX2_restore 41 = .ok (.imul, 1) := dk_104 (dk_at dksX2_restore_1 17 rfl rfl)
theorem dX2_restore_42 : decode cX2_restore 42 = .ok (.aload_n 0, 1) := dk_42 (dk_at dksX2_restore_1 18 rfl rfl)
theorem dX2_restore_43 : decode cX2_restore 43 = .ok (.getfield 9, 3) := dk_180 0 9 (dk_at dksX2_restore_1 19 rfl rfl)
theorem dX2_restore_46 : decode cX2_restore 46 = .ok (.iconst 0, 1) := dk_3 (dk_at dksX2_restore_1 22 rfl rfl)
theorem dX2_restore_47 : decode cX2_restore 47 = .ok (.invokestatic 60, 3) := dk_184 0 60 (dk_at dksX2_restore_2 0 rfl rfl)
theorem dX2_restore_50 : decode cX2_restore 50 = .ok (.aload_n 0, 1) := dk_42 (dk_at dksX2_restore_2 3 rfl rfl)
theorem dX2_restore_51 : decode cX2_restore 51 = .ok (.iconst 0, 1) := dk_3 (dk_at dksX2_restore_2 4 rfl rfl)
theorem dX2_restore_52 : decode cX2_restore 52 = .ok (.putfield 229, 3) := dk_181 0 229 (dk_at dksX2_restore_2 5 rfl rfl)
theorem dX2_restore_55 : decode cX2_restore 55 = .ok (.aload_n 0, 1) := dk_42 (dk_at dksX2_restore_2 8 rfl rfl)
theorem dX2_restore_56 : decode cX2_restore 56 = .ok (.getfield 9, 3) := dk_180 0 9 (dk_at dksX2_restore_2 9 rfl rfl)
theorem dX2_restore_59 : decode cX2_restore 59 = .ok (.iconst 2, 1) := dk_5 (dk_at dksX2_restore_2 12 rfl rfl)
theorem dX2_restore_60 : decode cX2_restore 60 = .ok (.iaload, 1) := dk_46 (dk_at dksX2_restore_2 13 rfl rfl)
theorem dX2_restore_61 : decode cX2_restore 61 = .ok (.ireturn, 1) := dk_172 (dk_at dksX2_restore_2 14 rfl rfl)
theorem q140 : (Jvm.Cond.initialized "VotingHutsModel") ∈ lw_all := lw_g (lw_at lw_m1 8 rfl) rfl
theorem q1083 : (Jvm.Cond.selects "VotingHutsModel" ({ cls := "java/lang/Object", name := "getClass", desc := "()Ljava/lang/Class;" } : Jvm.MethodName) ({ cls := "java/lang/Object", name := "getClass", desc := "()Ljava/lang/Class;" } : Jvm.MethodName)) ∈ lw_all := lw_g (lw_at lw_m4 231 rfl) rfl
theorem q2158 : (Jvm.Cond.instantiable "VotingHutsModel" (22 : Nat)) ∈ lw_all := lw_g (lw_at lw_m9 106 rfl) rfl
theorem q2160 : (Jvm.Cond.instanceMethod ({ cls := "VotingHutsModel", name := "<init>", desc := "()V" } : Jvm.MethodName)) ∈ lw_all := lw_g (lw_at lw_m9 108 rfl) rfl
theorem q2161 : (Jvm.Cond.code ({ cls := "VotingHutsModel", name := "<init>", desc := "()V" } : Jvm.MethodName) prog_12_method_1_code (1 : Nat) (Option.none : Option Jvm.ClassFile.FieldType)) ∈ lw_all := lw_g (lw_at lw_m9 109 rfl) rfl
theorem q2162 : (Jvm.Cond.methodLink "VotingHutsModel" (1 : Nat) ({ cls := "java/lang/Object", name := "<init>", desc := "()V" } : Jvm.MethodName)) ∈ lw_all := lw_g (lw_at lw_m9 110 rfl) rfl
theorem q2163 : (Jvm.Cond.fieldLink "VotingHutsModel" (49 : Nat) "VotingHutsModel" "thrown" "I") ∈ lw_all := lw_g (lw_at lw_m9 111 rfl) rfl
theorem q2164 : (Jvm.Cond.fieldLink "VotingHutsModel" (9 : Nat) "VotingHutsModel" "now" "[I") ∈ lw_all := lw_g (lw_at lw_m9 112 rfl) rfl
theorem q2165 : (Jvm.Cond.fieldLink "VotingHutsModel" (13 : Nat) "VotingHutsModel" "aside" "[I") ∈ lw_all := lw_g (lw_at lw_m9 113 rfl) rfl
theorem q2166 : (Jvm.Cond.fieldLink "VotingHutsModel" (16 : Nat) "VotingHutsModel" "undos" "[I") ∈ lw_all := lw_g (lw_at lw_m9 114 rfl) rfl
theorem q2167 : (Jvm.Cond.fieldLink "VotingHutsModel" (19 : Nat) "VotingHutsModel" "saved" "[I") ∈ lw_all := lw_g (lw_at lw_m9 115 rfl) rfl
theorem q2168 : (Jvm.Cond.fieldLink "VotingHutsModel" (22 : Nat) "VotingHutsModel" "isSaved" "[Z") ∈ lw_all := lw_g (lw_at lw_m9 116 rfl) rfl
theorem q2169 : (Jvm.Cond.fieldLink "VotingHutsModel" (56 : Nat) "VotingHutsModel" "isThere" "Z") ∈ lw_all := lw_g (lw_at lw_m9 117 rfl) rfl
theorem q2170 : (Jvm.Cond.fieldLink "VotingHutsModel" (229 : Nat) "VotingHutsModel" "undoMany" "I") ∈ lw_all := lw_g (lw_at lw_m9 118 rfl) rfl
theorem q2171 : (Jvm.Cond.fieldLink "VotingHutsModel" (26 : Nat) "VotingHutsModel" "buffer" "[B") ∈ lw_all := lw_g (lw_at lw_m9 119 rfl) rfl
theorem q2172 : (Jvm.Cond.fieldLink "VotingHutsModel" (64 : Nat) "VotingHutsModel" "buffered" "I") ∈ lw_all := lw_g (lw_at lw_m9 120 rfl) rfl
theorem q2173 : (Jvm.Cond.fieldLink "VotingHutsModel" (71 : Nat) "VotingHutsModel" "parseCode" "I") ∈ lw_all := lw_g (lw_at lw_m9 121 rfl) rfl
theorem q2174 : (Jvm.Cond.fieldLink "VotingHutsModel" (30 : Nat) "VotingHutsModel" "parseAt" "I") ∈ lw_all := lw_g (lw_at lw_m9 122 rfl) rfl
theorem q2175 : (Jvm.Cond.fieldLink "VotingHutsModel" (74 : Nat) "VotingHutsModel" "size" "I") ∈ lw_all := lw_g (lw_at lw_m9 123 rfl) rfl
theorem q2176 : (Jvm.Cond.fieldLink "VotingHutsModel" (81 : Nat) "VotingHutsModel" "cursor" "I") ∈ lw_all := lw_g (lw_at lw_m9 124 rfl) rfl
theorem q2177 : (Jvm.Cond.fieldLink "VotingHutsModel" (84 : Nat) "VotingHutsModel" "start" "I") ∈ lw_all := lw_g (lw_at lw_m9 125 rfl) rfl
theorem q2178 : (Jvm.Cond.fieldLink "VotingHutsModel" (87 : Nat) "VotingHutsModel" "token" "I") ∈ lw_all := lw_g (lw_at lw_m9 126 rfl) rfl
theorem q2179 : (Jvm.Cond.fieldLink "VotingHutsModel" (34 : Nat) "VotingHutsModel" "ends" "[I") ∈ lw_all := lw_g (lw_at lw_m9 127 rfl) rfl
theorem q2180 : (Jvm.Cond.fieldLink "VotingHutsModel" (37 : Nat) "VotingHutsModel" "others" "[I") ∈ lw_all := lw_g (lw_at lw_m9 128 rfl) rfl
theorem q2181 : (Jvm.Cond.fieldLink "VotingHutsModel" (40 : Nat) "VotingHutsModel" "page" "[B") ∈ lw_all := lw_g (lw_at lw_m9 129 rfl) rfl
theorem q2182 : (Jvm.Cond.fieldLink "VotingHutsModel" (410 : Nat) "VotingHutsModel" "pageSize" "I") ∈ lw_all := lw_g (lw_at lw_m9 130 rfl) rfl
theorem q2183 : (Jvm.Cond.fieldLink "VotingHutsModel" (43 : Nat) "VotingHutsModel" "levelStorms" "[I") ∈ lw_all := lw_g (lw_at lw_m9 131 rfl) rfl
theorem q2184 : (Jvm.Cond.fieldLink "VotingHutsModel" (46 : Nat) "VotingHutsModel" "levelPhases" "[I") ∈ lw_all := lw_g (lw_at lw_m9 132 rfl) rfl
theorem q2185 : (Jvm.Cond.lays "VotingHutsModel" "VotingHutsModel" "thrown" "I") ∈ lw_all := lw_g (lw_at lw_m9 133 rfl) rfl
theorem q2186 : (Jvm.Cond.soleField "VotingHutsModel" "thrown") ∈ lw_all := lw_g (lw_at lw_m9 134 rfl) rfl
theorem q2187 : (Jvm.Cond.laysFinal "VotingHutsModel" "VotingHutsModel" "now" "[I") ∈ lw_all := lw_g (lw_at lw_m9 135 rfl) rfl
theorem q2188 : (Jvm.Cond.soleField "VotingHutsModel" "now") ∈ lw_all := lw_g (lw_at lw_m9 136 rfl) rfl
theorem q2189 : (Jvm.Cond.laysFinal "VotingHutsModel" "VotingHutsModel" "aside" "[I") ∈ lw_all := lw_g (lw_at lw_m9 137 rfl) rfl
theorem q2190 : (Jvm.Cond.soleField "VotingHutsModel" "aside") ∈ lw_all := lw_g (lw_at lw_m9 138 rfl) rfl
theorem q2191 : (Jvm.Cond.laysFinal "VotingHutsModel" "VotingHutsModel" "undos" "[I") ∈ lw_all := lw_g (lw_at lw_m9 139 rfl) rfl
theorem q2192 : (Jvm.Cond.soleField "VotingHutsModel" "undos") ∈ lw_all := lw_g (lw_at lw_m9 140 rfl) rfl
theorem q2193 : (Jvm.Cond.laysFinal "VotingHutsModel" "VotingHutsModel" "saved" "[I") ∈ lw_all := lw_g (lw_at lw_m9 141 rfl) rfl
theorem q2194 : (Jvm.Cond.soleField "VotingHutsModel" "saved") ∈ lw_all := lw_g (lw_at lw_m9 142 rfl) rfl
theorem q2195 : (Jvm.Cond.laysFinal "VotingHutsModel" "VotingHutsModel" "isSaved" "[Z") ∈ lw_all := lw_g (lw_at lw_m9 143 rfl) rfl
theorem q2196 : (Jvm.Cond.soleField "VotingHutsModel" "isSaved") ∈ lw_all := lw_g (lw_at lw_m9 144 rfl) rfl
theorem q2197 : (Jvm.Cond.lays "VotingHutsModel" "VotingHutsModel" "isThere" "Z") ∈ lw_all := lw_g (lw_at lw_m9 145 rfl) rfl
theorem q2198 : (Jvm.Cond.soleField "VotingHutsModel" "isThere") ∈ lw_all := lw_g (lw_at lw_m9 146 rfl) rfl
theorem q2199 : (Jvm.Cond.lays "VotingHutsModel" "VotingHutsModel" "undoMany" "I") ∈ lw_all := lw_g (lw_at lw_m9 147 rfl) rfl
theorem q2200 : (Jvm.Cond.soleField "VotingHutsModel" "undoMany") ∈ lw_all := lw_g (lw_at lw_m9 148 rfl) rfl
theorem q2201 : (Jvm.Cond.laysFinal "VotingHutsModel" "VotingHutsModel" "buffer" "[B") ∈ lw_all := lw_g (lw_at lw_m9 149 rfl) rfl
theorem q2202 : (Jvm.Cond.soleField "VotingHutsModel" "buffer") ∈ lw_all := lw_g (lw_at lw_m9 150 rfl) rfl
theorem q2203 : (Jvm.Cond.lays "VotingHutsModel" "VotingHutsModel" "buffered" "I") ∈ lw_all := lw_g (lw_at lw_m9 151 rfl) rfl
theorem q2204 : (Jvm.Cond.soleField "VotingHutsModel" "buffered") ∈ lw_all := lw_g (lw_at lw_m9 152 rfl) rfl
theorem q2205 : (Jvm.Cond.lays "VotingHutsModel" "VotingHutsModel" "parseCode" "I") ∈ lw_all := lw_g (lw_at lw_m9 153 rfl) rfl
theorem q2206 : (Jvm.Cond.soleField "VotingHutsModel" "parseCode") ∈ lw_all := lw_g (lw_at lw_m9 154 rfl) rfl
theorem q2207 : (Jvm.Cond.lays "VotingHutsModel" "VotingHutsModel" "parseAt" "I") ∈ lw_all := lw_g (lw_at lw_m9 155 rfl) rfl
theorem q2208 : (Jvm.Cond.soleField "VotingHutsModel" "parseAt") ∈ lw_all := lw_g (lw_at lw_m9 156 rfl) rfl
theorem q2209 : (Jvm.Cond.lays "VotingHutsModel" "VotingHutsModel" "size" "I") ∈ lw_all := lw_g (lw_at lw_m9 157 rfl) rfl
theorem q2210 : (Jvm.Cond.soleField "VotingHutsModel" "size") ∈ lw_all := lw_g (lw_at lw_m9 158 rfl) rfl
theorem q2211 : (Jvm.Cond.lays "VotingHutsModel" "VotingHutsModel" "cursor" "I") ∈ lw_all := lw_g (lw_at lw_m9 159 rfl) rfl
theorem q2212 : (Jvm.Cond.soleField "VotingHutsModel" "cursor") ∈ lw_all := lw_g (lw_at lw_m9 160 rfl) rfl
theorem q2213 : (Jvm.Cond.lays "VotingHutsModel" "VotingHutsModel" "start" "I") ∈ lw_all := lw_g (lw_at lw_m9 161 rfl) rfl
theorem q2214 : (Jvm.Cond.soleField "VotingHutsModel" "start") ∈ lw_all := lw_g (lw_at lw_m9 162 rfl) rfl
theorem q2215 : (Jvm.Cond.lays "VotingHutsModel" "VotingHutsModel" "token" "I") ∈ lw_all := lw_g (lw_at lw_m9 163 rfl) rfl
theorem q2216 : (Jvm.Cond.soleField "VotingHutsModel" "token") ∈ lw_all := lw_g (lw_at lw_m9 164 rfl) rfl
theorem q2217 : (Jvm.Cond.laysFinal "VotingHutsModel" "VotingHutsModel" "ends" "[I") ∈ lw_all := lw_g (lw_at lw_m9 165 rfl) rfl
theorem q2218 : (Jvm.Cond.soleField "VotingHutsModel" "ends") ∈ lw_all := lw_g (lw_at lw_m9 166 rfl) rfl
theorem q2219 : (Jvm.Cond.laysFinal "VotingHutsModel" "VotingHutsModel" "others" "[I") ∈ lw_all := lw_g (lw_at lw_m9 167 rfl) rfl
theorem q2220 : (Jvm.Cond.soleField "VotingHutsModel" "others") ∈ lw_all := lw_g (lw_at lw_m9 168 rfl) rfl
theorem q2221 : (Jvm.Cond.laysFinal "VotingHutsModel" "VotingHutsModel" "page" "[B") ∈ lw_all := lw_g (lw_at lw_m9 169 rfl) rfl
theorem q2222 : (Jvm.Cond.soleField "VotingHutsModel" "page") ∈ lw_all := lw_g (lw_at lw_m9 170 rfl) rfl
theorem q2223 : (Jvm.Cond.lays "VotingHutsModel" "VotingHutsModel" "pageSize" "I") ∈ lw_all := lw_g (lw_at lw_m9 171 rfl) rfl
theorem q2224 : (Jvm.Cond.soleField "VotingHutsModel" "pageSize") ∈ lw_all := lw_g (lw_at lw_m9 172 rfl) rfl
theorem q2225 : (Jvm.Cond.laysFinal "VotingHutsModel" "VotingHutsModel" "levelStorms" "[I") ∈ lw_all := lw_g (lw_at lw_m9 173 rfl) rfl
theorem q2226 : (Jvm.Cond.soleField "VotingHutsModel" "levelStorms") ∈ lw_all := lw_g (lw_at lw_m9 174 rfl) rfl
theorem q2227 : (Jvm.Cond.laysFinal "VotingHutsModel" "VotingHutsModel" "levelPhases" "[I") ∈ lw_all := lw_g (lw_at lw_m9 175 rfl) rfl
theorem q2228 : (Jvm.Cond.soleField "VotingHutsModel" "levelPhases") ∈ lw_all := lw_g (lw_at lw_m9 176 rfl) rfl
theorem q2229 : (Jvm.Cond.superclass "VotingHutsModel" "java/lang/Object") ∈ lw_all := lw_g (lw_at lw_m9 177 rfl) rfl
theorem q2231 : (Jvm.Cond.instanceMethod ({ cls := "VotingHutsModel", name := "thrown", desc := "()I" } : Jvm.MethodName)) ∈ lw_all := lw_g (lw_at lw_m9 179 rfl) rfl
theorem q2232 : (Jvm.Cond.selects "VotingHutsModel" ({ cls := "VotingHutsModel", name := "thrown", desc := "()I" } : Jvm.MethodName) ({ cls := "VotingHutsModel", name := "thrown", desc := "()I" } : Jvm.MethodName)) ∈ lw_all := lw_g (lw_at lw_m9 180 rfl) rfl
theorem q2233 : (Jvm.Cond.code ({ cls := "VotingHutsModel", name := "thrown", desc := "()I" } : Jvm.MethodName) prog_12_method_2_code (1 : Nat) (Option.some Jvm.ClassFile.FieldType.int)) ∈ lw_all := lw_g (lw_at lw_m9 181 rfl) rfl
theorem q2235 : (Jvm.Cond.instanceMethod ({ cls := "VotingHutsModel", name := "append", desc := "(IIIII)I" } : Jvm.MethodName)) ∈ lw_all := lw_g (lw_at lw_m9 183 rfl) rfl
theorem q2236 : (Jvm.Cond.selects "VotingHutsModel" ({ cls := "VotingHutsModel", name := "append", desc := "(IIIII)I" } : Jvm.MethodName) ({ cls := "VotingHutsModel", name := "append", desc := "(IIIII)I" } : Jvm.MethodName)) ∈ lw_all := lw_g (lw_at lw_m9 184 rfl) rfl
theorem q2237 : (Jvm.Cond.code ({ cls := "VotingHutsModel", name := "append", desc := "(IIIII)I" } : Jvm.MethodName) prog_12_method_11_code (6 : Nat) (Option.some Jvm.ClassFile.FieldType.int)) ∈ lw_all := lw_g (lw_at lw_m9 185 rfl) rfl
theorem q2238 : (Jvm.Cond.methodLink "VotingHutsModel" (67 : Nat) ({ cls := "VotingHutsModel", name := "four", desc := "(I)V" } : Jvm.MethodName)) ∈ lw_all := lw_g (lw_at lw_m9 186 rfl) rfl
theorem q2239 : (Jvm.Cond.privateMethod ({ cls := "VotingHutsModel", name := "four", desc := "(I)V" } : Jvm.MethodName)) ∈ lw_tbl := lw_at lw_m9 187 rfl
theorem q2240 : (Jvm.Cond.instanceMethod ({ cls := "VotingHutsModel", name := "four", desc := "(I)V" } : Jvm.MethodName)) ∈ lw_all := lw_g (lw_at lw_m9 188 rfl) rfl
theorem q2241 : (Jvm.Cond.code ({ cls := "VotingHutsModel", name := "four", desc := "(I)V" } : Jvm.MethodName) prog_12_method_12_code (3 : Nat) (Option.none : Option Jvm.ClassFile.FieldType)) ∈ lw_all := lw_g (lw_at lw_m9 189 rfl) rfl
theorem q2243 : (Jvm.Cond.instanceMethod ({ cls := "VotingHutsModel", name := "parseError", desc := "()I" } : Jvm.MethodName)) ∈ lw_all := lw_g (lw_at lw_m9 191 rfl) rfl
theorem q2244 : (Jvm.Cond.selects "VotingHutsModel" ({ cls := "VotingHutsModel", name := "parseError", desc := "()I" } : Jvm.MethodName) ({ cls := "VotingHutsModel", name := "parseError", desc := "()I" } : Jvm.MethodName)) ∈ lw_all := lw_g (lw_at lw_m9 192 rfl) rfl
theorem q2245 : (Jvm.Cond.code ({ cls := "VotingHutsModel", name := "parseError", desc := "()I" } : Jvm.MethodName) prog_12_method_13_code (1 : Nat) (Option.some Jvm.ClassFile.FieldType.int)) ∈ lw_all := lw_g (lw_at lw_m9 193 rfl) rfl
theorem q2247 : (Jvm.Cond.instanceMethod ({ cls := "VotingHutsModel", name := "errorPosition", desc := "()I" } : Jvm.MethodName)) ∈ lw_all := lw_g (lw_at lw_m9 195 rfl) rfl
theorem q2248 : (Jvm.Cond.selects "VotingHutsModel" ({ cls := "VotingHutsModel", name := "errorPosition", desc := "()I" } : Jvm.MethodName) ({ cls := "VotingHutsModel", name := "errorPosition", desc := "()I" } : Jvm.MethodName)) ∈ lw_all := lw_g (lw_at lw_m9 196 rfl) rfl
theorem q2249 : (Jvm.Cond.code ({ cls := "VotingHutsModel", name := "errorPosition", desc := "()I" } : Jvm.MethodName) prog_12_method_14_code (1 : Nat) (Option.some Jvm.ClassFile.FieldType.int)) ∈ lw_all := lw_g (lw_at lw_m9 197 rfl) rfl
theorem q2251 : (Jvm.Cond.instanceMethod ({ cls := "VotingHutsModel", name := "buffered", desc := "()I" } : Jvm.MethodName)) ∈ lw_all := lw_g (lw_at lw_m9 199 rfl) rfl
theorem q2252 : (Jvm.Cond.selects "VotingHutsModel" ({ cls := "VotingHutsModel", name := "buffered", desc := "()I" } : Jvm.MethodName) ({ cls := "VotingHutsModel", name := "buffered", desc := "()I" } : Jvm.MethodName)) ∈ lw_all := lw_g (lw_at lw_m9 200 rfl) rfl
theorem q2253 : (Jvm.Cond.code ({ cls := "VotingHutsModel", name := "buffered", desc := "()I" } : Jvm.MethodName) prog_12_method_15_code (1 : Nat) (Option.some Jvm.ClassFile.FieldType.int)) ∈ lw_all := lw_g (lw_at lw_m9 201 rfl) rfl
theorem q2255 : (Jvm.Cond.instanceMethod ({ cls := "VotingHutsModel", name := "load", desc := "(I)I" } : Jvm.MethodName)) ∈ lw_all := lw_g (lw_at lw_m9 203 rfl) rfl
theorem q2256 : (Jvm.Cond.selects "VotingHutsModel" ({ cls := "VotingHutsModel", name := "load", desc := "(I)I" } : Jvm.MethodName) ({ cls := "VotingHutsModel", name := "load", desc := "(I)I" } : Jvm.MethodName)) ∈ lw_all := lw_g (lw_at lw_m9 204 rfl) rfl
theorem q2257 : (Jvm.Cond.code ({ cls := "VotingHutsModel", name := "load", desc := "(I)I" } : Jvm.MethodName) prog_12_method_36_code (3 : Nat) (Option.some Jvm.ClassFile.FieldType.int)) ∈ lw_all := lw_g (lw_at lw_m9 205 rfl) rfl
theorem q2258 : (Jvm.Cond.methodLink "VotingHutsModel" (77 : Nat) ({ cls := "VotingHutsModel", name := "in", desc := "(III)Z" } : Jvm.MethodName)) ∈ lw_all := lw_g (lw_at lw_m9 206 rfl) rfl
theorem q2259 : (Jvm.Cond.static ({ cls := "VotingHutsModel", name := "in", desc := "(III)Z" } : Jvm.MethodName)) ∈ lw_all := lw_g (lw_at lw_m9 207 rfl) rfl
theorem q2260 : (Jvm.Cond.code ({ cls := "VotingHutsModel", name := "in", desc := "(III)Z" } : Jvm.MethodName) prog_12_method_3_code (3 : Nat) (Option.some Jvm.ClassFile.FieldType.boolean)) ∈ lw_all := lw_g (lw_at lw_m9 208 rfl) rfl
theorem q2261 : (Jvm.Cond.methodLink "VotingHutsModel" (52 : Nat) ({ cls := "VotingHutsModel", name := "may", desc := "(ZZZ)Z" } : Jvm.MethodName)) ∈ lw_all := lw_g (lw_at lw_m9 209 rfl) rfl
theorem q2262 : (Jvm.Cond.privateMethod ({ cls := "VotingHutsModel", name := "may", desc := "(ZZZ)Z" } : Jvm.MethodName)) ∈ lw_tbl := lw_at lw_m9 210 rfl
theorem q2263 : (Jvm.Cond.instanceMethod ({ cls := "VotingHutsModel", name := "may", desc := "(ZZZ)Z" } : Jvm.MethodName)) ∈ lw_all := lw_g (lw_at lw_m9 211 rfl) rfl
theorem q2264 : (Jvm.Cond.code ({ cls := "VotingHutsModel", name := "may", desc := "(ZZZ)Z" } : Jvm.MethodName) prog_12_method_5_code (4 : Nat) (Option.some Jvm.ClassFile.FieldType.boolean)) ∈ lw_all := lw_g (lw_at lw_m9 212 rfl) rfl
theorem q2265 : (Jvm.Cond.methodLink "VotingHutsModel" (220 : Nat) ({ cls := "VotingHutsModel", name := "thinks", desc := "()V" } : Jvm.MethodName)) ∈ lw_all := lw_g (lw_at lw_m9 213 rfl) rfl
theorem q2266 : (Jvm.Cond.privateMethod ({ cls := "VotingHutsModel", name := "thinks", desc := "()V" } : Jvm.MethodName)) ∈ lw_tbl := lw_at lw_m9 214 rfl
theorem q2267 : (Jvm.Cond.instanceMethod ({ cls := "VotingHutsModel", name := "thinks", desc := "()V" } : Jvm.MethodName)) ∈ lw_all := lw_g (lw_at lw_m9 215 rfl) rfl
theorem q2268 : (Jvm.Cond.code ({ cls := "VotingHutsModel", name := "thinks", desc := "()V" } : Jvm.MethodName) prog_12_method_9_code (1 : Nat) (Option.none : Option Jvm.ClassFile.FieldType)) ∈ lw_all := lw_g (lw_at lw_m9 216 rfl) rfl
theorem q2269 : (Jvm.Cond.methodLink "VotingHutsModel" (60 : Nat) ({ cls := "VotingHutsModel", name := "lays", desc := "([II[II)V" } : Jvm.MethodName)) ∈ lw_all := lw_g (lw_at lw_m9 217 rfl) rfl
theorem q2270 : (Jvm.Cond.static ({ cls := "VotingHutsModel", name := "lays", desc := "([II[II)V" } : Jvm.MethodName)) ∈ lw_all := lw_g (lw_at lw_m9 218 rfl) rfl
theorem q2271 : (Jvm.Cond.code ({ cls := "VotingHutsModel", name := "lays", desc := "([II[II)V" } : Jvm.MethodName) prog_12_method_8_code (5 : Nat) (Option.none : Option Jvm.ClassFile.FieldType)) ∈ lw_all := lw_g (lw_at lw_m9 219 rfl) rfl
theorem q2272 : (Jvm.Cond.methodLink "VotingHutsModel" (223 : Nat) ({ cls := "VotingHutsModel", name := "readsText", desc := "()V" } : Jvm.MethodName)) ∈ lw_all := lw_g (lw_at lw_m9 220 rfl) rfl
theorem q2273 : (Jvm.Cond.privateMethod ({ cls := "VotingHutsModel", name := "readsText", desc := "()V" } : Jvm.MethodName)) ∈ lw_tbl := lw_at lw_m9 221 rfl
theorem q2274 : (Jvm.Cond.instanceMethod ({ cls := "VotingHutsModel", name := "readsText", desc := "()V" } : Jvm.MethodName)) ∈ lw_all := lw_g (lw_at lw_m9 222 rfl) rfl
theorem q2275 : (Jvm.Cond.code ({ cls := "VotingHutsModel", name := "readsText", desc := "()V" } : Jvm.MethodName) prog_12_method_35_code (1 : Nat) (Option.none : Option Jvm.ClassFile.FieldType)) ∈ lw_all := lw_g (lw_at lw_m9 223 rfl) rfl
theorem q2276 : (Jvm.Cond.methodLink "VotingHutsModel" (120 : Nat) ({ cls := "VotingHutsModel", name := "goes", desc := "()V" } : Jvm.MethodName)) ∈ lw_all := lw_g (lw_at lw_m9 224 rfl) rfl
theorem q2277 : (Jvm.Cond.privateMethod ({ cls := "VotingHutsModel", name := "goes", desc := "()V" } : Jvm.MethodName)) ∈ lw_tbl := lw_at lw_m9 225 rfl
theorem q2278 : (Jvm.Cond.instanceMethod ({ cls := "VotingHutsModel", name := "goes", desc := "()V" } : Jvm.MethodName)) ∈ lw_all := lw_g (lw_at lw_m9 226 rfl) rfl
theorem q2279 : (Jvm.Cond.code ({ cls := "VotingHutsModel", name := "goes", desc := "()V" } : Jvm.MethodName) prog_12_method_18_code (1 : Nat) (Option.none : Option Jvm.ClassFile.FieldType)) ∈ lw_all := lw_g (lw_at lw_m9 227 rfl) rfl
theorem q2280 : (Jvm.Cond.methodLink "VotingHutsModel" (90 : Nat) ({ cls := "VotingHutsModel", name := "isLetter", desc := "(I)Z" } : Jvm.MethodName)) ∈ lw_all := lw_g (lw_at lw_m9 228 rfl) rfl
theorem q2281 : (Jvm.Cond.privateMethod ({ cls := "VotingHutsModel", name := "isLetter", desc := "(I)Z" } : Jvm.MethodName)) ∈ lw_tbl := lw_at lw_m9 229 rfl
theorem q2282 : (Jvm.Cond.instanceMethod ({ cls := "VotingHutsModel", name := "isLetter", desc := "(I)Z" } : Jvm.MethodName)) ∈ lw_all := lw_g (lw_at lw_m9 230 rfl) rfl
theorem q2283 : (Jvm.Cond.code ({ cls := "VotingHutsModel", name := "isLetter", desc := "(I)Z" } : Jvm.MethodName) prog_12_method_16_code (2 : Nat) (Option.some Jvm.ClassFile.FieldType.boolean)) ∈ lw_all := lw_g (lw_at lw_m9 231 rfl) rfl
theorem q2284 : (Jvm.Cond.methodLink "VotingHutsModel" (94 : Nat) ({ cls := "VotingHutsModel", name := "isDigit", desc := "(I)Z" } : Jvm.MethodName)) ∈ lw_all := lw_g (lw_at lw_m9 232 rfl) rfl
theorem q2285 : (Jvm.Cond.privateMethod ({ cls := "VotingHutsModel", name := "isDigit", desc := "(I)Z" } : Jvm.MethodName)) ∈ lw_tbl := lw_at lw_m9 233 rfl
theorem q2286 : (Jvm.Cond.instanceMethod ({ cls := "VotingHutsModel", name := "isDigit", desc := "(I)Z" } : Jvm.MethodName)) ∈ lw_all := lw_g (lw_at lw_m9 234 rfl) rfl
theorem q2287 : (Jvm.Cond.code ({ cls := "VotingHutsModel", name := "isDigit", desc := "(I)Z" } : Jvm.MethodName) prog_12_method_17_code (2 : Nat) (Option.some Jvm.ClassFile.FieldType.boolean)) ∈ lw_all := lw_g (lw_at lw_m9 235 rfl) rfl
theorem q2288 : (Jvm.Cond.stringRef "VotingHutsModel" (215 : Nat) "huts") ∈ lw_tbl := lw_at lw_m9 236 rfl
theorem q2289 : (Jvm.Cond.methodLink "VotingHutsModel" (154 : Nat) ({ cls := "VotingHutsModel", name := "isWord", desc := "(Ljava/lang/String;)Z" } : Jvm.MethodName)) ∈ lw_all := lw_g (lw_at lw_m9 237 rfl) rfl
theorem q2290 : (Jvm.Cond.privateMethod ({ cls := "VotingHutsModel", name := "isWord", desc := "(Ljava/lang/String;)Z" } : Jvm.MethodName)) ∈ lw_tbl := lw_at lw_m9 238 rfl
theorem q2291 : (Jvm.Cond.instanceMethod ({ cls := "VotingHutsModel", name := "isWord", desc := "(Ljava/lang/String;)Z" } : Jvm.MethodName)) ∈ lw_all := lw_g (lw_at lw_m9 239 rfl) rfl
theorem q2292 : (Jvm.Cond.code ({ cls := "VotingHutsModel", name := "isWord", desc := "(Ljava/lang/String;)Z" } : Jvm.MethodName) prog_12_method_21_code (3 : Nat) (Option.some Jvm.ClassFile.FieldType.boolean)) ∈ lw_all := lw_g (lw_at lw_m10 0 rfl) rfl
theorem q2293 : (Jvm.Cond.methodLink "VotingHutsModel" (97 : Nat) ({ cls := "VotingHutsModel", name := "is", desc := "(I)Z" } : Jvm.MethodName)) ∈ lw_all := lw_g (lw_at lw_m10 1 rfl) rfl
theorem q2294 : (Jvm.Cond.privateMethod ({ cls := "VotingHutsModel", name := "is", desc := "(I)Z" } : Jvm.MethodName)) ∈ lw_tbl := lw_at lw_m10 2 rfl
theorem q2295 : (Jvm.Cond.instanceMethod ({ cls := "VotingHutsModel", name := "is", desc := "(I)Z" } : Jvm.MethodName)) ∈ lw_all := lw_g (lw_at lw_m10 3 rfl) rfl
theorem q2296 : (Jvm.Cond.code ({ cls := "VotingHutsModel", name := "is", desc := "(I)Z" } : Jvm.MethodName) prog_12_method_20_code (2 : Nat) (Option.some Jvm.ClassFile.FieldType.boolean)) ∈ lw_all := lw_g (lw_at lw_m10 4 rfl) rfl
theorem q2297 : (Jvm.Cond.methodLink "VotingHutsModel" (100 : Nat) ({ cls := "java/lang/String", name := "length", desc := "()I" } : Jvm.MethodName)) ∈ lw_all := lw_g (lw_at lw_m10 5 rfl) rfl
theorem q2298 : (Jvm.Cond.methodLink "VotingHutsModel" (106 : Nat) ({ cls := "java/lang/String", name := "charAt", desc := "(I)C" } : Jvm.MethodName)) ∈ lw_all := lw_g (lw_at lw_m10 6 rfl) rfl
theorem q2299 : (Jvm.Cond.methodLink "VotingHutsModel" (110 : Nat) ({ cls := "VotingHutsModel", name := "faults", desc := "(I)V" } : Jvm.MethodName)) ∈ lw_all := lw_g (lw_at lw_m10 7 rfl) rfl
theorem q2300 : (Jvm.Cond.privateMethod ({ cls := "VotingHutsModel", name := "faults", desc := "(I)V" } : Jvm.MethodName)) ∈ lw_tbl := lw_at lw_m10 8 rfl
theorem q2301 : (Jvm.Cond.instanceMethod ({ cls := "VotingHutsModel", name := "faults", desc := "(I)V" } : Jvm.MethodName)) ∈ lw_all := lw_g (lw_at lw_m10 9 rfl) rfl
theorem q2302 : (Jvm.Cond.code ({ cls := "VotingHutsModel", name := "faults", desc := "(I)V" } : Jvm.MethodName) prog_12_method_19_code (2 : Nat) (Option.none : Option Jvm.ClassFile.FieldType)) ∈ lw_all := lw_g (lw_at lw_m10 10 rfl) rfl
theorem q2303 : (Jvm.Cond.methodLink "VotingHutsModel" (123 : Nat) ({ cls := "VotingHutsModel", name := "number", desc := "(II)I" } : Jvm.MethodName)) ∈ lw_all := lw_g (lw_at lw_m10 11 rfl) rfl
theorem q2304 : (Jvm.Cond.privateMethod ({ cls := "VotingHutsModel", name := "number", desc := "(II)I" } : Jvm.MethodName)) ∈ lw_tbl := lw_at lw_m10 12 rfl
theorem q2305 : (Jvm.Cond.instanceMethod ({ cls := "VotingHutsModel", name := "number", desc := "(II)I" } : Jvm.MethodName)) ∈ lw_all := lw_g (lw_at lw_m10 13 rfl) rfl
theorem q2306 : (Jvm.Cond.code ({ cls := "VotingHutsModel", name := "number", desc := "(II)I" } : Jvm.MethodName) prog_12_method_24_code (4 : Nat) (Option.some Jvm.ClassFile.FieldType.int)) ∈ lw_all := lw_g (lw_at lw_m10 14 rfl) rfl
theorem q2307 : (Jvm.Cond.methodLink "VotingHutsModel" (116 : Nat) ({ cls := "VotingHutsModel", name := "numberHere", desc := "(II)I" } : Jvm.MethodName)) ∈ lw_all := lw_g (lw_at lw_m10 15 rfl) rfl
theorem q2308 : (Jvm.Cond.privateMethod ({ cls := "VotingHutsModel", name := "numberHere", desc := "(II)I" } : Jvm.MethodName)) ∈ lw_tbl := lw_at lw_m10 16 rfl
theorem q2309 : (Jvm.Cond.instanceMethod ({ cls := "VotingHutsModel", name := "numberHere", desc := "(II)I" } : Jvm.MethodName)) ∈ lw_all := lw_g (lw_at lw_m10 17 rfl) rfl
theorem q2310 : (Jvm.Cond.code ({ cls := "VotingHutsModel", name := "numberHere", desc := "(II)I" } : Jvm.MethodName) prog_12_method_23_code (3 : Nat) (Option.some Jvm.ClassFile.FieldType.int)) ∈ lw_all := lw_g (lw_at lw_m10 18 rfl) rfl
theorem q2311 : (Jvm.Cond.methodLink "VotingHutsModel" (113 : Nat) ({ cls := "VotingHutsModel", name := "toldHere", desc := "()I" } : Jvm.MethodName)) ∈ lw_all := lw_g (lw_at lw_m10 19 rfl) rfl
theorem q2312 : (Jvm.Cond.privateMethod ({ cls := "VotingHutsModel", name := "toldHere", desc := "()I" } : Jvm.MethodName)) ∈ lw_tbl := lw_at lw_m10 20 rfl
theorem q2313 : (Jvm.Cond.instanceMethod ({ cls := "VotingHutsModel", name := "toldHere", desc := "()I" } : Jvm.MethodName)) ∈ lw_all := lw_g (lw_at lw_m10 21 rfl) rfl
theorem q2314 : (Jvm.Cond.code ({ cls := "VotingHutsModel", name := "toldHere", desc := "()I" } : Jvm.MethodName) prog_12_method_22_code (2 : Nat) (Option.some Jvm.ClassFile.FieldType.int)) ∈ lw_all := lw_g (lw_at lw_m10 22 rfl) rfl
theorem q2315 : (Jvm.Cond.methodLink "VotingHutsModel" (217 : Nat) ({ cls := "VotingHutsModel", name := "readsPart", desc := "()V" } : Jvm.MethodName)) ∈ lw_all := lw_g (lw_at lw_m10 23 rfl) rfl
theorem q2316 : (Jvm.Cond.privateMethod ({ cls := "VotingHutsModel", name := "readsPart", desc := "()V" } : Jvm.MethodName)) ∈ lw_tbl := lw_at lw_m10 24 rfl
theorem q2317 : (Jvm.Cond.instanceMethod ({ cls := "VotingHutsModel", name := "readsPart", desc := "()V" } : Jvm.MethodName)) ∈ lw_all := lw_g (lw_at lw_m10 25 rfl) rfl
theorem q2318 : (Jvm.Cond.code ({ cls := "VotingHutsModel", name := "readsPart", desc := "()V" } : Jvm.MethodName) prog_12_method_34_code (1 : Nat) (Option.none : Option Jvm.ClassFile.FieldType)) ∈ lw_all := lw_g (lw_at lw_m10 26 rfl) rfl
theorem q2319 : (Jvm.Cond.stringRef "VotingHutsModel" (195 : Nat) "storm") ∈ lw_tbl := lw_at lw_m10 27 rfl
theorem q2320 : (Jvm.Cond.methodLink "VotingHutsModel" (197 : Nat) ({ cls := "VotingHutsModel", name := "readsStorm", desc := "()V" } : Jvm.MethodName)) ∈ lw_all := lw_g (lw_at lw_m10 28 rfl) rfl
theorem q2321 : (Jvm.Cond.privateMethod ({ cls := "VotingHutsModel", name := "readsStorm", desc := "()V" } : Jvm.MethodName)) ∈ lw_tbl := lw_at lw_m10 29 rfl
theorem q2322 : (Jvm.Cond.instanceMethod ({ cls := "VotingHutsModel", name := "readsStorm", desc := "()V" } : Jvm.MethodName)) ∈ lw_all := lw_g (lw_at lw_m10 30 rfl) rfl
theorem q2323 : (Jvm.Cond.code ({ cls := "VotingHutsModel", name := "readsStorm", desc := "()V" } : Jvm.MethodName) prog_12_method_25_code (6 : Nat) (Option.none : Option Jvm.ClassFile.FieldType)) ∈ lw_all := lw_g (lw_at lw_m10 31 rfl) rfl
theorem q2324 : (Jvm.Cond.methodLink "VotingHutsModel" (126 : Nat) ({ cls := "VotingHutsModel", name := "wireOf", desc := "(III)I" } : Jvm.MethodName)) ∈ lw_all := lw_g (lw_at lw_m10 32 rfl) rfl
theorem q2325 : (Jvm.Cond.static ({ cls := "VotingHutsModel", name := "wireOf", desc := "(III)I" } : Jvm.MethodName)) ∈ lw_all := lw_g (lw_at lw_m10 33 rfl) rfl
theorem q2326 : (Jvm.Cond.code ({ cls := "VotingHutsModel", name := "wireOf", desc := "(III)I" } : Jvm.MethodName) prog_12_method_37_code (3 : Nat) (Option.some Jvm.ClassFile.FieldType.int)) ∈ lw_all := lw_g (lw_at lw_m10 34 rfl) rfl
theorem q2327 : (Jvm.Cond.methodLink "VotingHutsModel" (130 : Nat) ({ cls := "VotingHutsModel", name := "storms", desc := "(III)V" } : Jvm.MethodName)) ∈ lw_all := lw_g (lw_at lw_m10 35 rfl) rfl
theorem q2328 : (Jvm.Cond.privateMethod ({ cls := "VotingHutsModel", name := "storms", desc := "(III)V" } : Jvm.MethodName)) ∈ lw_tbl := lw_at lw_m10 36 rfl
theorem q2329 : (Jvm.Cond.instanceMethod ({ cls := "VotingHutsModel", name := "storms", desc := "(III)V" } : Jvm.MethodName)) ∈ lw_all := lw_g (lw_at lw_m10 37 rfl) rfl
theorem q2330 : (Jvm.Cond.code ({ cls := "VotingHutsModel", name := "storms", desc := "(III)V" } : Jvm.MethodName) prog_12_method_40_code (4 : Nat) (Option.none : Option Jvm.ClassFile.FieldType)) ∈ lw_all := lw_g (lw_at lw_m10 38 rfl) rfl
theorem q2331 : (Jvm.Cond.methodLink "VotingHutsModel" (137 : Nat) ({ cls := "VotingHutsModel", name := "putsWire", desc := "(III)V" } : Jvm.MethodName)) ∈ lw_all := lw_g (lw_at lw_m10 39 rfl) rfl
theorem q2332 : (Jvm.Cond.privateMethod ({ cls := "VotingHutsModel", name := "putsWire", desc := "(III)V" } : Jvm.MethodName)) ∈ lw_tbl := lw_at lw_m10 40 rfl
theorem q2333 : (Jvm.Cond.instanceMethod ({ cls := "VotingHutsModel", name := "putsWire", desc := "(III)V" } : Jvm.MethodName)) ∈ lw_all := lw_g (lw_at lw_m10 41 rfl) rfl
theorem q2334 : (Jvm.Cond.code ({ cls := "VotingHutsModel", name := "putsWire", desc := "(III)V" } : Jvm.MethodName) prog_12_method_39_code (4 : Nat) (Option.none : Option Jvm.ClassFile.FieldType)) ∈ lw_all := lw_g (lw_at lw_m10 42 rfl) rfl
theorem q2335 : (Jvm.Cond.stringRef "VotingHutsModel" (200 : Nat) "cut") ∈ lw_tbl := lw_at lw_m10 43 rfl
theorem q2336 : (Jvm.Cond.methodLink "VotingHutsModel" (158 : Nat) ({ cls := "VotingHutsModel", name := "readsCut", desc := "(I)V" } : Jvm.MethodName)) ∈ lw_all := lw_g (lw_at lw_m10 44 rfl) rfl
theorem q2337 : (Jvm.Cond.privateMethod ({ cls := "VotingHutsModel", name := "readsCut", desc := "(I)V" } : Jvm.MethodName)) ∈ lw_tbl := lw_at lw_m10 45 rfl
theorem q2338 : (Jvm.Cond.instanceMethod ({ cls := "VotingHutsModel", name := "readsCut", desc := "(I)V" } : Jvm.MethodName)) ∈ lw_all := lw_g (lw_at lw_m10 46 rfl) rfl
theorem q2339 : (Jvm.Cond.code ({ cls := "VotingHutsModel", name := "readsCut", desc := "(I)V" } : Jvm.MethodName) prog_12_method_26_code (5 : Nat) (Option.none : Option Jvm.ClassFile.FieldType)) ∈ lw_all := lw_g (lw_at lw_m10 47 rfl) rfl
theorem q2340 : (Jvm.Cond.methodLink "VotingHutsModel" (134 : Nat) ({ cls := "VotingHutsModel", name := "ofWire", desc := "(II)I" } : Jvm.MethodName)) ∈ lw_all := lw_g (lw_at lw_m10 48 rfl) rfl
theorem q2341 : (Jvm.Cond.privateMethod ({ cls := "VotingHutsModel", name := "ofWire", desc := "(II)I" } : Jvm.MethodName)) ∈ lw_tbl := lw_at lw_m10 49 rfl
theorem q2342 : (Jvm.Cond.instanceMethod ({ cls := "VotingHutsModel", name := "ofWire", desc := "(II)I" } : Jvm.MethodName)) ∈ lw_all := lw_g (lw_at lw_m10 50 rfl) rfl
theorem q2343 : (Jvm.Cond.code ({ cls := "VotingHutsModel", name := "ofWire", desc := "(II)I" } : Jvm.MethodName) prog_12_method_38_code (3 : Nat) (Option.some Jvm.ClassFile.FieldType.int)) ∈ lw_all := lw_g (lw_at lw_m10 51 rfl) rfl
theorem q2344 : (Jvm.Cond.stringRef "VotingHutsModel" (202 : Nat) "send") ∈ lw_tbl := lw_at lw_m10 52 rfl
theorem q2345 : (Jvm.Cond.methodLink "VotingHutsModel" (204 : Nat) ({ cls := "VotingHutsModel", name := "readsSend", desc := "()V" } : Jvm.MethodName)) ∈ lw_all := lw_g (lw_at lw_m10 53 rfl) rfl
theorem q2346 : (Jvm.Cond.privateMethod ({ cls := "VotingHutsModel", name := "readsSend", desc := "()V" } : Jvm.MethodName)) ∈ lw_tbl := lw_at lw_m10 54 rfl
theorem q2347 : (Jvm.Cond.instanceMethod ({ cls := "VotingHutsModel", name := "readsSend", desc := "()V" } : Jvm.MethodName)) ∈ lw_all := lw_g (lw_at lw_m10 55 rfl) rfl
theorem q2348 : (Jvm.Cond.code ({ cls := "VotingHutsModel", name := "readsSend", desc := "()V" } : Jvm.MethodName) prog_12_method_32_code (3 : Nat) (Option.none : Option Jvm.ClassFile.FieldType)) ∈ lw_all := lw_g (lw_at lw_m10 56 rfl) rfl
theorem q2349 : (Jvm.Cond.methodLink "VotingHutsModel" (181 : Nat) ({ cls := "VotingHutsModel", name := "begins", desc := "(I)I" } : Jvm.MethodName)) ∈ lw_all := lw_g (lw_at lw_m10 57 rfl) rfl
theorem q2350 : (Jvm.Cond.privateMethod ({ cls := "VotingHutsModel", name := "begins", desc := "(I)I" } : Jvm.MethodName)) ∈ lw_tbl := lw_at lw_m10 58 rfl
theorem q2351 : (Jvm.Cond.instanceMethod ({ cls := "VotingHutsModel", name := "begins", desc := "(I)I" } : Jvm.MethodName)) ∈ lw_all := lw_g (lw_at lw_m10 59 rfl) rfl
theorem q2352 : (Jvm.Cond.code ({ cls := "VotingHutsModel", name := "begins", desc := "(I)I" } : Jvm.MethodName) prog_12_method_49_code (4 : Nat) (Option.some Jvm.ClassFile.FieldType.int)) ∈ lw_all := lw_g (lw_at lw_m10 60 rfl) rfl
theorem q2353 : (Jvm.Cond.methodLink "VotingHutsModel" (241 : Nat) ({ cls := "VotingHutsModel", name := "puts", desc := "(III)V" } : Jvm.MethodName)) ∈ lw_all := lw_g (lw_at lw_m10 61 rfl) rfl
theorem q2354 : (Jvm.Cond.privateMethod ({ cls := "VotingHutsModel", name := "puts", desc := "(III)V" } : Jvm.MethodName)) ∈ lw_tbl := lw_at lw_m10 62 rfl
theorem q2355 : (Jvm.Cond.instanceMethod ({ cls := "VotingHutsModel", name := "puts", desc := "(III)V" } : Jvm.MethodName)) ∈ lw_all := lw_g (lw_at lw_m10 63 rfl) rfl
theorem q2356 : (Jvm.Cond.code ({ cls := "VotingHutsModel", name := "puts", desc := "(III)V" } : Jvm.MethodName) prog_12_method_45_code (4 : Nat) (Option.none : Option Jvm.ClassFile.FieldType)) ∈ lw_all := lw_g (lw_at lw_m10 64 rfl) rfl
theorem q2357 : (Jvm.Cond.methodLink "VotingHutsModel" (185 : Nat) ({ cls := "VotingHutsModel", name := "putsDigit", desc := "(III)V" } : Jvm.MethodName)) ∈ lw_all := lw_g (lw_at lw_m10 65 rfl) rfl
theorem q2358 : (Jvm.Cond.privateMethod ({ cls := "VotingHutsModel", name := "putsDigit", desc := "(III)V" } : Jvm.MethodName)) ∈ lw_tbl := lw_at lw_m10 66 rfl
theorem q2359 : (Jvm.Cond.instanceMethod ({ cls := "VotingHutsModel", name := "putsDigit", desc := "(III)V" } : Jvm.MethodName)) ∈ lw_all := lw_g (lw_at lw_m10 67 rfl) rfl
theorem q2360 : (Jvm.Cond.code ({ cls := "VotingHutsModel", name := "putsDigit", desc := "(III)V" } : Jvm.MethodName) prog_12_method_50_code (5 : Nat) (Option.none : Option Jvm.ClassFile.FieldType)) ∈ lw_all := lw_g (lw_at lw_m10 68 rfl) rfl
theorem q2361 : (Jvm.Cond.methodLink "VotingHutsModel" (188 : Nat) ({ cls := "VotingHutsModel", name := "logs", desc := "(II)V" } : Jvm.MethodName)) ∈ lw_all := lw_g (lw_at lw_m10 69 rfl) rfl
theorem q2362 : (Jvm.Cond.privateMethod ({ cls := "VotingHutsModel", name := "logs", desc := "(II)V" } : Jvm.MethodName)) ∈ lw_tbl := lw_at lw_m10 70 rfl
theorem q2363 : (Jvm.Cond.instanceMethod ({ cls := "VotingHutsModel", name := "logs", desc := "(II)V" } : Jvm.MethodName)) ∈ lw_all := lw_g (lw_at lw_m10 71 rfl) rfl
theorem q2364 : (Jvm.Cond.code ({ cls := "VotingHutsModel", name := "logs", desc := "(II)V" } : Jvm.MethodName) prog_12_method_51_code (4 : Nat) (Option.none : Option Jvm.ClassFile.FieldType)) ∈ lw_all := lw_g (lw_at lw_m10 72 rfl) rfl
theorem q2365 : (Jvm.Cond.methodLink "VotingHutsModel" (238 : Nat) ({ cls := "VotingHutsModel", name := "of", desc := "(II)I" } : Jvm.MethodName)) ∈ lw_all := lw_g (lw_at lw_m10 73 rfl) rfl
theorem q2366 : (Jvm.Cond.privateMethod ({ cls := "VotingHutsModel", name := "of", desc := "(II)I" } : Jvm.MethodName)) ∈ lw_tbl := lw_at lw_m10 74 rfl
theorem q2367 : (Jvm.Cond.instanceMethod ({ cls := "VotingHutsModel", name := "of", desc := "(II)I" } : Jvm.MethodName)) ∈ lw_all := lw_g (lw_at lw_m10 75 rfl) rfl
theorem q2368 : (Jvm.Cond.code ({ cls := "VotingHutsModel", name := "of", desc := "(II)I" } : Jvm.MethodName) prog_12_method_44_code (3 : Nat) (Option.some Jvm.ClassFile.FieldType.int)) ∈ lw_all := lw_g (lw_at lw_m10 76 rfl) rfl
theorem q2369 : (Jvm.Cond.stringRef "VotingHutsModel" (207 : Nat) "pass") ∈ lw_tbl := lw_at lw_m10 77 rfl
theorem q2370 : (Jvm.Cond.methodLink "VotingHutsModel" (209 : Nat) ({ cls := "VotingHutsModel", name := "readsPass", desc := "()V" } : Jvm.MethodName)) ∈ lw_all := lw_g (lw_at lw_m10 78 rfl) rfl
theorem q2371 : (Jvm.Cond.privateMethod ({ cls := "VotingHutsModel", name := "readsPass", desc := "()V" } : Jvm.MethodName)) ∈ lw_tbl := lw_at lw_m10 79 rfl
theorem q2372 : (Jvm.Cond.instanceMethod ({ cls := "VotingHutsModel", name := "readsPass", desc := "()V" } : Jvm.MethodName)) ∈ lw_all := lw_g (lw_at lw_m10 80 rfl) rfl
theorem q2373 : (Jvm.Cond.code ({ cls := "VotingHutsModel", name := "readsPass", desc := "()V" } : Jvm.MethodName) prog_12_method_33_code (3 : Nat) (Option.none : Option Jvm.ClassFile.FieldType)) ∈ lw_all := lw_g (lw_at lw_m10 81 rfl) rfl
theorem q2374 : (Jvm.Cond.methodLink "VotingHutsModel" (192 : Nat) ({ cls := "VotingHutsModel", name := "passes", desc := "(I)I" } : Jvm.MethodName)) ∈ lw_all := lw_g (lw_at lw_m10 82 rfl) rfl
theorem q2375 : (Jvm.Cond.privateMethod ({ cls := "VotingHutsModel", name := "passes", desc := "(I)I" } : Jvm.MethodName)) ∈ lw_tbl := lw_at lw_m10 83 rfl
theorem q2376 : (Jvm.Cond.instanceMethod ({ cls := "VotingHutsModel", name := "passes", desc := "(I)I" } : Jvm.MethodName)) ∈ lw_all := lw_g (lw_at lw_m10 84 rfl) rfl
theorem q2377 : (Jvm.Cond.code ({ cls := "VotingHutsModel", name := "passes", desc := "(I)I" } : Jvm.MethodName) prog_12_method_64_code (5 : Nat) (Option.some Jvm.ClassFile.FieldType.int)) ∈ lw_all := lw_g (lw_at lw_m10 85 rfl) rfl
theorem q2378 : (Jvm.Cond.methodLink "VotingHutsModel" (287 : Nat) ({ cls := "VotingHutsModel", name := "arrivedMany", desc := "()I" } : Jvm.MethodName)) ∈ lw_all := lw_g (lw_at lw_m10 86 rfl) rfl
theorem q2379 : (Jvm.Cond.privateMethod ({ cls := "VotingHutsModel", name := "arrivedMany", desc := "()I" } : Jvm.MethodName)) ∈ lw_tbl := lw_at lw_m10 87 rfl
theorem q2380 : (Jvm.Cond.instanceMethod ({ cls := "VotingHutsModel", name := "arrivedMany", desc := "()I" } : Jvm.MethodName)) ∈ lw_all := lw_g (lw_at lw_m10 88 rfl) rfl
theorem q2381 : (Jvm.Cond.code ({ cls := "VotingHutsModel", name := "arrivedMany", desc := "()I" } : Jvm.MethodName) prog_12_method_63_code (3 : Nat) (Option.some Jvm.ClassFile.FieldType.int)) ∈ lw_all := lw_g (lw_at lw_m10 89 rfl) rfl
theorem q2382 : (Jvm.Cond.methodLink "VotingHutsModel" (146 : Nat) ({ cls := "VotingHutsModel", name := "isUnderWay", desc := "(I)Z" } : Jvm.MethodName)) ∈ lw_all := lw_g (lw_at lw_m10 90 rfl) rfl
theorem q2383 : (Jvm.Cond.privateMethod ({ cls := "VotingHutsModel", name := "isUnderWay", desc := "(I)Z" } : Jvm.MethodName)) ∈ lw_tbl := lw_at lw_m10 91 rfl
theorem q2384 : (Jvm.Cond.instanceMethod ({ cls := "VotingHutsModel", name := "isUnderWay", desc := "(I)Z" } : Jvm.MethodName)) ∈ lw_all := lw_g (lw_at lw_m10 92 rfl) rfl
theorem q2385 : (Jvm.Cond.code ({ cls := "VotingHutsModel", name := "isUnderWay", desc := "(I)Z" } : Jvm.MethodName) prog_12_method_57_code (2 : Nat) (Option.some Jvm.ClassFile.FieldType.boolean)) ∈ lw_all := lw_g (lw_at lw_m10 93 rfl) rfl
theorem q2386 : (Jvm.Cond.methodLink "VotingHutsModel" (260 : Nat) ({ cls := "VotingHutsModel", name := "one", desc := "(Z)I" } : Jvm.MethodName)) ∈ lw_all := lw_g (lw_at lw_m10 94 rfl) rfl
theorem q2387 : (Jvm.Cond.static ({ cls := "VotingHutsModel", name := "one", desc := "(Z)I" } : Jvm.MethodName)) ∈ lw_all := lw_g (lw_at lw_m10 95 rfl) rfl
theorem q2388 : (Jvm.Cond.code ({ cls := "VotingHutsModel", name := "one", desc := "(Z)I" } : Jvm.MethodName) prog_12_method_4_code (1 : Nat) (Option.some Jvm.ClassFile.FieldType.int)) ∈ lw_all := lw_g (lw_at lw_m10 96 rfl) rfl
theorem q2389 : (Jvm.Cond.methodLink "VotingHutsModel" (290 : Nat) ({ cls := "VotingHutsModel", name := "moves", desc := "(I)V" } : Jvm.MethodName)) ∈ lw_all := lw_g (lw_at lw_m10 97 rfl) rfl
theorem q2390 : (Jvm.Cond.privateMethod ({ cls := "VotingHutsModel", name := "moves", desc := "(I)V" } : Jvm.MethodName)) ∈ lw_tbl := lw_at lw_m10 98 rfl
theorem q2391 : (Jvm.Cond.instanceMethod ({ cls := "VotingHutsModel", name := "moves", desc := "(I)V" } : Jvm.MethodName)) ∈ lw_all := lw_g (lw_at lw_m10 99 rfl) rfl
theorem q2392 : (Jvm.Cond.code ({ cls := "VotingHutsModel", name := "moves", desc := "(I)V" } : Jvm.MethodName) prog_12_method_62_code (2 : Nat) (Option.none : Option Jvm.ClassFile.FieldType)) ∈ lw_all := lw_g (lw_at lw_m10 100 rfl) rfl
theorem q2393 : (Jvm.Cond.methodLink "VotingHutsModel" (276 : Nat) ({ cls := "VotingHutsModel", name := "willAsk", desc := "(I)Z" } : Jvm.MethodName)) ∈ lw_all := lw_g (lw_at lw_m10 101 rfl) rfl
theorem q2394 : (Jvm.Cond.privateMethod ({ cls := "VotingHutsModel", name := "willAsk", desc := "(I)Z" } : Jvm.MethodName)) ∈ lw_tbl := lw_at lw_m10 102 rfl
theorem q2395 : (Jvm.Cond.instanceMethod ({ cls := "VotingHutsModel", name := "willAsk", desc := "(I)Z" } : Jvm.MethodName)) ∈ lw_all := lw_g (lw_at lw_m10 103 rfl) rfl
theorem q2396 : (Jvm.Cond.code ({ cls := "VotingHutsModel", name := "willAsk", desc := "(I)Z" } : Jvm.MethodName) prog_12_method_58_code (2 : Nat) (Option.some Jvm.ClassFile.FieldType.boolean)) ∈ lw_all := lw_g (lw_at lw_m10 104 rfl) rfl
theorem q2397 : (Jvm.Cond.methodLink "VotingHutsModel" (267 : Nat) ({ cls := "VotingHutsModel", name := "unsureAll", desc := "(I)I" } : Jvm.MethodName)) ∈ lw_all := lw_g (lw_at lw_m10 105 rfl) rfl
theorem q2398 : (Jvm.Cond.privateMethod ({ cls := "VotingHutsModel", name := "unsureAll", desc := "(I)I" } : Jvm.MethodName)) ∈ lw_tbl := lw_at lw_m10 106 rfl
theorem q2399 : (Jvm.Cond.instanceMethod ({ cls := "VotingHutsModel", name := "unsureAll", desc := "(I)I" } : Jvm.MethodName)) ∈ lw_all := lw_g (lw_at lw_m10 107 rfl) rfl
theorem q2400 : (Jvm.Cond.code ({ cls := "VotingHutsModel", name := "unsureAll", desc := "(I)I" } : Jvm.MethodName) prog_12_method_56_code (2 : Nat) (Option.some Jvm.ClassFile.FieldType.int)) ∈ lw_all := lw_g (lw_at lw_m10 108 rfl) rfl
theorem q2401 : (Jvm.Cond.methodLink "VotingHutsModel" (264 : Nat) ({ cls := "VotingHutsModel", name := "unsureOf", desc := "(II)I" } : Jvm.MethodName)) ∈ lw_all := lw_g (lw_at lw_m10 109 rfl) rfl
theorem q2402 : (Jvm.Cond.privateMethod ({ cls := "VotingHutsModel", name := "unsureOf", desc := "(II)I" } : Jvm.MethodName)) ∈ lw_tbl := lw_at lw_m10 110 rfl
theorem q2403 : (Jvm.Cond.instanceMethod ({ cls := "VotingHutsModel", name := "unsureOf", desc := "(II)I" } : Jvm.MethodName)) ∈ lw_all := lw_g (lw_at lw_m10 111 rfl) rfl
theorem q2404 : (Jvm.Cond.code ({ cls := "VotingHutsModel", name := "unsureOf", desc := "(II)I" } : Jvm.MethodName) prog_12_method_55_code (5 : Nat) (Option.some Jvm.ClassFile.FieldType.int)) ∈ lw_all := lw_g (lw_at lw_m10 112 rfl) rfl
theorem q2405 : (Jvm.Cond.methodLink "VotingHutsModel" (257 : Nat) ({ cls := "VotingHutsModel", name := "hasAt", desc := "(III)I" } : Jvm.MethodName)) ∈ lw_all := lw_g (lw_at lw_m10 113 rfl) rfl
theorem q2406 : (Jvm.Cond.privateMethod ({ cls := "VotingHutsModel", name := "hasAt", desc := "(III)I" } : Jvm.MethodName)) ∈ lw_tbl := lw_at lw_m10 114 rfl
theorem q2407 : (Jvm.Cond.instanceMethod ({ cls := "VotingHutsModel", name := "hasAt", desc := "(III)I" } : Jvm.MethodName)) ∈ lw_all := lw_g (lw_at lw_m10 115 rfl) rfl
theorem q2408 : (Jvm.Cond.code ({ cls := "VotingHutsModel", name := "hasAt", desc := "(III)I" } : Jvm.MethodName) prog_12_method_46_code (4 : Nat) (Option.some Jvm.ClassFile.FieldType.int)) ∈ lw_all := lw_g (lw_at lw_m10 116 rfl) rfl
theorem q2409 : (Jvm.Cond.methodLink "VotingHutsModel" (279 : Nat) ({ cls := "VotingHutsModel", name := "asks", desc := "(I)V" } : Jvm.MethodName)) ∈ lw_all := lw_g (lw_at lw_m10 117 rfl) rfl
theorem q2410 : (Jvm.Cond.privateMethod ({ cls := "VotingHutsModel", name := "asks", desc := "(I)V" } : Jvm.MethodName)) ∈ lw_tbl := lw_at lw_m10 118 rfl
theorem q2411 : (Jvm.Cond.instanceMethod ({ cls := "VotingHutsModel", name := "asks", desc := "(I)V" } : Jvm.MethodName)) ∈ lw_all := lw_g (lw_at lw_m10 119 rfl) rfl
theorem q2412 : (Jvm.Cond.code ({ cls := "VotingHutsModel", name := "asks", desc := "(I)V" } : Jvm.MethodName) prog_12_method_59_code (4 : Nat) (Option.none : Option Jvm.ClassFile.FieldType)) ∈ lw_all := lw_g (lw_at lw_m10 120 rfl) rfl
theorem q2413 : (Jvm.Cond.methodLink "VotingHutsModel" (270 : Nat) ({ cls := "VotingHutsModel", name := "getsCopies", desc := "(III)V" } : Jvm.MethodName)) ∈ lw_all := lw_g (lw_at lw_m10 121 rfl) rfl
theorem q2414 : (Jvm.Cond.privateMethod ({ cls := "VotingHutsModel", name := "getsCopies", desc := "(III)V" } : Jvm.MethodName)) ∈ lw_tbl := lw_at lw_m10 122 rfl
theorem q2415 : (Jvm.Cond.instanceMethod ({ cls := "VotingHutsModel", name := "getsCopies", desc := "(III)V" } : Jvm.MethodName)) ∈ lw_all := lw_g (lw_at lw_m10 123 rfl) rfl
theorem q2416 : (Jvm.Cond.code ({ cls := "VotingHutsModel", name := "getsCopies", desc := "(III)V" } : Jvm.MethodName) prog_12_method_54_code (7 : Nat) (Option.none : Option Jvm.ClassFile.FieldType)) ∈ lw_all := lw_g (lw_at lw_m10 124 rfl) rfl
theorem q2417 : (Jvm.Cond.methodLink "VotingHutsModel" (251 : Nat) ({ cls := "VotingHutsModel", name := "sends", desc := "(III)I" } : Jvm.MethodName)) ∈ lw_all := lw_g (lw_at lw_m10 125 rfl) rfl
theorem q2418 : (Jvm.Cond.privateMethod ({ cls := "VotingHutsModel", name := "sends", desc := "(III)I" } : Jvm.MethodName)) ∈ lw_tbl := lw_at lw_m10 126 rfl
theorem q2419 : (Jvm.Cond.instanceMethod ({ cls := "VotingHutsModel", name := "sends", desc := "(III)I" } : Jvm.MethodName)) ∈ lw_all := lw_g (lw_at lw_m10 127 rfl) rfl
theorem q2420 : (Jvm.Cond.code ({ cls := "VotingHutsModel", name := "sends", desc := "(III)I" } : Jvm.MethodName) prog_12_method_43_code (4 : Nat) (Option.some Jvm.ClassFile.FieldType.int)) ∈ lw_all := lw_g (lw_at lw_m10 128 rfl) rfl
theorem q2421 : (Jvm.Cond.methodLink "VotingHutsModel" (232 : Nat) ({ cls := "VotingHutsModel", name := "isGarbled", desc := "(III)Z" } : Jvm.MethodName)) ∈ lw_all := lw_g (lw_at lw_m10 129 rfl) rfl
theorem q2422 : (Jvm.Cond.privateMethod ({ cls := "VotingHutsModel", name := "isGarbled", desc := "(III)Z" } : Jvm.MethodName)) ∈ lw_tbl := lw_at lw_m10 130 rfl
theorem q2423 : (Jvm.Cond.instanceMethod ({ cls := "VotingHutsModel", name := "isGarbled", desc := "(III)Z" } : Jvm.MethodName)) ∈ lw_all := lw_g (lw_at lw_m10 131 rfl) rfl
theorem q2424 : (Jvm.Cond.code ({ cls := "VotingHutsModel", name := "isGarbled", desc := "(III)Z" } : Jvm.MethodName) prog_12_method_41_code (4 : Nat) (Option.some Jvm.ClassFile.FieldType.boolean)) ∈ lw_all := lw_g (lw_at lw_m10 132 rfl) rfl
theorem q2425 : (Jvm.Cond.methodLink "VotingHutsModel" (235 : Nat) ({ cls := "VotingHutsModel", name := "arriving", desc := "(III)I" } : Jvm.MethodName)) ∈ lw_all := lw_g (lw_at lw_m10 133 rfl) rfl
theorem q2426 : (Jvm.Cond.privateMethod ({ cls := "VotingHutsModel", name := "arriving", desc := "(III)I" } : Jvm.MethodName)) ∈ lw_tbl := lw_at lw_m10 134 rfl
theorem q2427 : (Jvm.Cond.instanceMethod ({ cls := "VotingHutsModel", name := "arriving", desc := "(III)I" } : Jvm.MethodName)) ∈ lw_all := lw_g (lw_at lw_m10 135 rfl) rfl
theorem q2428 : (Jvm.Cond.code ({ cls := "VotingHutsModel", name := "arriving", desc := "(III)I" } : Jvm.MethodName) prog_12_method_42_code (4 : Nat) (Option.some Jvm.ClassFile.FieldType.int)) ∈ lw_all := lw_g (lw_at lw_m10 136 rfl) rfl
theorem q2429 : (Jvm.Cond.methodLink "VotingHutsModel" (254 : Nat) ({ cls := "VotingHutsModel", name := "votedAt", desc := "(III)I" } : Jvm.MethodName)) ∈ lw_all := lw_g (lw_at lw_m10 137 rfl) rfl
theorem q2430 : (Jvm.Cond.privateMethod ({ cls := "VotingHutsModel", name := "votedAt", desc := "(III)I" } : Jvm.MethodName)) ∈ lw_tbl := lw_at lw_m10 138 rfl
theorem q2431 : (Jvm.Cond.instanceMethod ({ cls := "VotingHutsModel", name := "votedAt", desc := "(III)I" } : Jvm.MethodName)) ∈ lw_all := lw_g (lw_at lw_m10 139 rfl) rfl
theorem q2432 : (Jvm.Cond.code ({ cls := "VotingHutsModel", name := "votedAt", desc := "(III)I" } : Jvm.MethodName) prog_12_method_53_code (4 : Nat) (Option.some Jvm.ClassFile.FieldType.int)) ∈ lw_all := lw_g (lw_at lw_m10 140 rfl) rfl
theorem q2433 : (Jvm.Cond.methodLink "VotingHutsModel" (244 : Nat) ({ cls := "VotingHutsModel", name := "copyAt", desc := "(IIII)I" } : Jvm.MethodName)) ∈ lw_all := lw_g (lw_at lw_m10 141 rfl) rfl
theorem q2434 : (Jvm.Cond.privateMethod ({ cls := "VotingHutsModel", name := "copyAt", desc := "(IIII)I" } : Jvm.MethodName)) ∈ lw_tbl := lw_at lw_m10 142 rfl
theorem q2435 : (Jvm.Cond.instanceMethod ({ cls := "VotingHutsModel", name := "copyAt", desc := "(IIII)I" } : Jvm.MethodName)) ∈ lw_all := lw_g (lw_at lw_m10 143 rfl) rfl
theorem q2436 : (Jvm.Cond.code ({ cls := "VotingHutsModel", name := "copyAt", desc := "(IIII)I" } : Jvm.MethodName) prog_12_method_47_code (5 : Nat) (Option.some Jvm.ClassFile.FieldType.int)) ∈ lw_all := lw_g (lw_at lw_m10 144 rfl) rfl
theorem q2437 : (Jvm.Cond.methodLink "VotingHutsModel" (248 : Nat) ({ cls := "VotingHutsModel", name := "voted", desc := "(III)I" } : Jvm.MethodName)) ∈ lw_all := lw_g (lw_at lw_m10 145 rfl) rfl
theorem q2438 : (Jvm.Cond.static ({ cls := "VotingHutsModel", name := "voted", desc := "(III)I" } : Jvm.MethodName)) ∈ lw_all := lw_g (lw_at lw_m10 146 rfl) rfl
theorem q2439 : (Jvm.Cond.code ({ cls := "VotingHutsModel", name := "voted", desc := "(III)I" } : Jvm.MethodName) prog_12_method_52_code (3 : Nat) (Option.some Jvm.ClassFile.FieldType.int)) ∈ lw_all := lw_g (lw_at lw_m10 147 rfl) rfl
theorem q2440 : (Jvm.Cond.methodLink "VotingHutsModel" (273 : Nat) ({ cls := "VotingHutsModel", name := "lastLevel", desc := "()I" } : Jvm.MethodName)) ∈ lw_all := lw_g (lw_at lw_m10 148 rfl) rfl
theorem q2441 : (Jvm.Cond.privateMethod ({ cls := "VotingHutsModel", name := "lastLevel", desc := "()I" } : Jvm.MethodName)) ∈ lw_tbl := lw_at lw_m10 149 rfl
theorem q2442 : (Jvm.Cond.instanceMethod ({ cls := "VotingHutsModel", name := "lastLevel", desc := "()I" } : Jvm.MethodName)) ∈ lw_all := lw_g (lw_at lw_m10 150 rfl) rfl
theorem q2443 : (Jvm.Cond.code ({ cls := "VotingHutsModel", name := "lastLevel", desc := "()I" } : Jvm.MethodName) prog_12_method_48_code (1 : Nat) (Option.some Jvm.ClassFile.FieldType.int)) ∈ lw_all := lw_g (lw_at lw_m10 151 rfl) rfl
theorem q2444 : (Jvm.Cond.methodLink "VotingHutsModel" (281 : Nat) ({ cls := "VotingHutsModel", name := "goesOn", desc := "(I)V" } : Jvm.MethodName)) ∈ lw_all := lw_g (lw_at lw_m10 152 rfl) rfl
theorem q2445 : (Jvm.Cond.privateMethod ({ cls := "VotingHutsModel", name := "goesOn", desc := "(I)V" } : Jvm.MethodName)) ∈ lw_tbl := lw_at lw_m10 153 rfl
theorem q2446 : (Jvm.Cond.instanceMethod ({ cls := "VotingHutsModel", name := "goesOn", desc := "(I)V" } : Jvm.MethodName)) ∈ lw_all := lw_g (lw_at lw_m10 154 rfl) rfl
theorem q2447 : (Jvm.Cond.code ({ cls := "VotingHutsModel", name := "goesOn", desc := "(I)V" } : Jvm.MethodName) prog_12_method_60_code (4 : Nat) (Option.none : Option Jvm.ClassFile.FieldType)) ∈ lw_all := lw_g (lw_at lw_m10 155 rfl) rfl
theorem q2448 : (Jvm.Cond.methodLink "VotingHutsModel" (284 : Nat) ({ cls := "VotingHutsModel", name := "mayArrive", desc := "(I)Z" } : Jvm.MethodName)) ∈ lw_all := lw_g (lw_at lw_m10 156 rfl) rfl
theorem q2449 : (Jvm.Cond.privateMethod ({ cls := "VotingHutsModel", name := "mayArrive", desc := "(I)Z" } : Jvm.MethodName)) ∈ lw_tbl := lw_at lw_m10 157 rfl
theorem q2450 : (Jvm.Cond.instanceMethod ({ cls := "VotingHutsModel", name := "mayArrive", desc := "(I)Z" } : Jvm.MethodName)) ∈ lw_all := lw_g (lw_at lw_m10 158 rfl) rfl
theorem q2451 : (Jvm.Cond.code ({ cls := "VotingHutsModel", name := "mayArrive", desc := "(I)Z" } : Jvm.MethodName) prog_12_method_61_code (2 : Nat) (Option.some Jvm.ClassFile.FieldType.boolean)) ∈ lw_all := lw_g (lw_at lw_m10 159 rfl) rfl
theorem q2452 : (Jvm.Cond.methodLink "VotingHutsModel" (212 : Nat) ({ cls := "VotingHutsModel", name := "readsOther", desc := "()V" } : Jvm.MethodName)) ∈ lw_all := lw_g (lw_at lw_m10 160 rfl) rfl
theorem q2453 : (Jvm.Cond.privateMethod ({ cls := "VotingHutsModel", name := "readsOther", desc := "()V" } : Jvm.MethodName)) ∈ lw_tbl := lw_at lw_m10 161 rfl
theorem q2454 : (Jvm.Cond.instanceMethod ({ cls := "VotingHutsModel", name := "readsOther", desc := "()V" } : Jvm.MethodName)) ∈ lw_all := lw_g (lw_at lw_m10 162 rfl) rfl
theorem q2455 : (Jvm.Cond.code ({ cls := "VotingHutsModel", name := "readsOther", desc := "()V" } : Jvm.MethodName) prog_12_method_31_code (1 : Nat) (Option.none : Option Jvm.ClassFile.FieldType)) ∈ lw_all := lw_g (lw_at lw_m10 163 rfl) rfl
theorem q2456 : (Jvm.Cond.stringRef "VotingHutsModel" (152 : Nat) "mend") ∈ lw_tbl := lw_at lw_m10 164 rfl
theorem q2457 : (Jvm.Cond.stringRef "VotingHutsModel" (161 : Nat) "same") ∈ lw_tbl := lw_at lw_m10 165 rfl
theorem q2458 : (Jvm.Cond.methodLink "VotingHutsModel" (163 : Nat) ({ cls := "VotingHutsModel", name := "readsSame", desc := "()V" } : Jvm.MethodName)) ∈ lw_all := lw_g (lw_at lw_m10 166 rfl) rfl
theorem q2459 : (Jvm.Cond.privateMethod ({ cls := "VotingHutsModel", name := "readsSame", desc := "()V" } : Jvm.MethodName)) ∈ lw_tbl := lw_at lw_m10 167 rfl
theorem q2460 : (Jvm.Cond.instanceMethod ({ cls := "VotingHutsModel", name := "readsSame", desc := "()V" } : Jvm.MethodName)) ∈ lw_all := lw_g (lw_at lw_m10 168 rfl) rfl
theorem q2461 : (Jvm.Cond.code ({ cls := "VotingHutsModel", name := "readsSame", desc := "()V" } : Jvm.MethodName) prog_12_method_27_code (4 : Nat) (Option.none : Option Jvm.ClassFile.FieldType)) ∈ lw_all := lw_g (lw_at lw_m10 169 rfl) rfl
theorem q2462 : (Jvm.Cond.methodLink "VotingHutsModel" (140 : Nat) ({ cls := "VotingHutsModel", name := "sendsSame", desc := "(II)I" } : Jvm.MethodName)) ∈ lw_all := lw_g (lw_at lw_m10 170 rfl) rfl
theorem q2463 : (Jvm.Cond.privateMethod ({ cls := "VotingHutsModel", name := "sendsSame", desc := "(II)I" } : Jvm.MethodName)) ∈ lw_tbl := lw_at lw_m10 171 rfl
theorem q2464 : (Jvm.Cond.instanceMethod ({ cls := "VotingHutsModel", name := "sendsSame", desc := "(II)I" } : Jvm.MethodName)) ∈ lw_all := lw_g (lw_at lw_m10 172 rfl) rfl
theorem q2465 : (Jvm.Cond.code ({ cls := "VotingHutsModel", name := "sendsSame", desc := "(II)I" } : Jvm.MethodName) prog_12_method_150_code (5 : Nat) (Option.some Jvm.ClassFile.FieldType.int)) ∈ lw_all := lw_g (lw_at lw_m10 173 rfl) rfl
theorem q2466 : (Jvm.Cond.stringRef "VotingHutsModel" (166 : Nat) "asks") ∈ lw_tbl := lw_at lw_m10 174 rfl
theorem q2467 : (Jvm.Cond.methodLink "VotingHutsModel" (168 : Nat) ({ cls := "VotingHutsModel", name := "readsAsks", desc := "()V" } : Jvm.MethodName)) ∈ lw_all := lw_g (lw_at lw_m10 175 rfl) rfl
theorem q2468 : (Jvm.Cond.privateMethod ({ cls := "VotingHutsModel", name := "readsAsks", desc := "()V" } : Jvm.MethodName)) ∈ lw_tbl := lw_at lw_m10 176 rfl
theorem q2469 : (Jvm.Cond.instanceMethod ({ cls := "VotingHutsModel", name := "readsAsks", desc := "()V" } : Jvm.MethodName)) ∈ lw_all := lw_g (lw_at lw_m10 177 rfl) rfl
theorem q2470 : (Jvm.Cond.code ({ cls := "VotingHutsModel", name := "readsAsks", desc := "()V" } : Jvm.MethodName) prog_12_method_28_code (2 : Nat) (Option.none : Option Jvm.ClassFile.FieldType)) ∈ lw_all := lw_g (lw_at lw_m10 178 rfl) rfl
theorem q2471 : (Jvm.Cond.stringRef "VotingHutsModel" (171 : Nat) "calm") ∈ lw_tbl := lw_at lw_m10 179 rfl
theorem q2472 : (Jvm.Cond.methodLink "VotingHutsModel" (173 : Nat) ({ cls := "VotingHutsModel", name := "readsCalm", desc := "()V" } : Jvm.MethodName)) ∈ lw_all := lw_g (lw_at lw_m10 180 rfl) rfl
theorem q2473 : (Jvm.Cond.privateMethod ({ cls := "VotingHutsModel", name := "readsCalm", desc := "()V" } : Jvm.MethodName)) ∈ lw_tbl := lw_at lw_m10 181 rfl
theorem q2474 : (Jvm.Cond.instanceMethod ({ cls := "VotingHutsModel", name := "readsCalm", desc := "()V" } : Jvm.MethodName)) ∈ lw_all := lw_g (lw_at lw_m10 182 rfl) rfl
theorem q2475 : (Jvm.Cond.code ({ cls := "VotingHutsModel", name := "readsCalm", desc := "()V" } : Jvm.MethodName) prog_12_method_29_code (1 : Nat) (Option.none : Option Jvm.ClassFile.FieldType)) ∈ lw_all := lw_g (lw_at lw_m10 183 rfl) rfl
theorem q2476 : (Jvm.Cond.methodLink "VotingHutsModel" (143 : Nat) ({ cls := "VotingHutsModel", name := "calms", desc := "()V" } : Jvm.MethodName)) ∈ lw_all := lw_g (lw_at lw_m10 184 rfl) rfl
theorem q2477 : (Jvm.Cond.privateMethod ({ cls := "VotingHutsModel", name := "calms", desc := "()V" } : Jvm.MethodName)) ∈ lw_tbl := lw_at lw_m10 185 rfl
theorem q2478 : (Jvm.Cond.instanceMethod ({ cls := "VotingHutsModel", name := "calms", desc := "()V" } : Jvm.MethodName)) ∈ lw_all := lw_g (lw_at lw_m10 186 rfl) rfl
theorem q2479 : (Jvm.Cond.code ({ cls := "VotingHutsModel", name := "calms", desc := "()V" } : Jvm.MethodName) prog_12_method_155_code (2 : Nat) (Option.none : Option Jvm.ClassFile.FieldType)) ∈ lw_all := lw_g (lw_at lw_m10 187 rfl) rfl
theorem q2480 : (Jvm.Cond.stringRef "VotingHutsModel" (176 : Nat) "drop") ∈ lw_tbl := lw_at lw_m10 188 rfl
theorem q2481 : (Jvm.Cond.methodLink "VotingHutsModel" (178 : Nat) ({ cls := "VotingHutsModel", name := "readsDrop", desc := "()V" } : Jvm.MethodName)) ∈ lw_all := lw_g (lw_at lw_m10 189 rfl) rfl
theorem q2482 : (Jvm.Cond.privateMethod ({ cls := "VotingHutsModel", name := "readsDrop", desc := "()V" } : Jvm.MethodName)) ∈ lw_tbl := lw_at lw_m10 190 rfl
theorem q2483 : (Jvm.Cond.instanceMethod ({ cls := "VotingHutsModel", name := "readsDrop", desc := "()V" } : Jvm.MethodName)) ∈ lw_all := lw_g (lw_at lw_m10 191 rfl) rfl
theorem q2484 : (Jvm.Cond.code ({ cls := "VotingHutsModel", name := "readsDrop", desc := "()V" } : Jvm.MethodName) prog_12_method_30_code (2 : Nat) (Option.none : Option Jvm.ClassFile.FieldType)) ∈ lw_all := lw_g (lw_at lw_m10 192 rfl) rfl
theorem q2485 : (Jvm.Cond.methodLink "VotingHutsModel" (149 : Nat) ({ cls := "VotingHutsModel", name := "drops", desc := "(I)V" } : Jvm.MethodName)) ∈ lw_all := lw_g (lw_at lw_m10 193 rfl) rfl
theorem q2486 : (Jvm.Cond.privateMethod ({ cls := "VotingHutsModel", name := "drops", desc := "(I)V" } : Jvm.MethodName)) ∈ lw_tbl := lw_at lw_m10 194 rfl
theorem q2487 : (Jvm.Cond.instanceMethod ({ cls := "VotingHutsModel", name := "drops", desc := "(I)V" } : Jvm.MethodName)) ∈ lw_all := lw_g (lw_at lw_m10 195 rfl) rfl
theorem q2488 : (Jvm.Cond.code ({ cls := "VotingHutsModel", name := "drops", desc := "(I)V" } : Jvm.MethodName) prog_12_method_163_code (4 : Nat) (Option.none : Option Jvm.ClassFile.FieldType)) ∈ lw_all := lw_g (lw_at lw_m10 196 rfl) rfl
theorem q2489 : (Jvm.Cond.methodLink "VotingHutsModel" (431 : Nat) ({ cls := "VotingHutsModel", name := "dropsFromLog", desc := "(I)V" } : Jvm.MethodName)) ∈ lw_all := lw_g (lw_at lw_m10 197 rfl) rfl
theorem q2490 : (Jvm.Cond.privateMethod ({ cls := "VotingHutsModel", name := "dropsFromLog", desc := "(I)V" } : Jvm.MethodName)) ∈ lw_tbl := lw_at lw_m10 198 rfl
theorem q2491 : (Jvm.Cond.instanceMethod ({ cls := "VotingHutsModel", name := "dropsFromLog", desc := "(I)V" } : Jvm.MethodName)) ∈ lw_all := lw_g (lw_at lw_m10 199 rfl) rfl
theorem q2492 : (Jvm.Cond.code ({ cls := "VotingHutsModel", name := "dropsFromLog", desc := "(I)V" } : Jvm.MethodName) prog_12_method_161_code (6 : Nat) (Option.none : Option Jvm.ClassFile.FieldType)) ∈ lw_all := lw_g (lw_at lw_m10 200 rfl) rfl
theorem q2493 : (Jvm.Cond.methodLink "VotingHutsModel" (226 : Nat) ({ cls := "VotingHutsModel", name := "back", desc := "(I)I" } : Jvm.MethodName)) ∈ lw_all := lw_g (lw_at lw_m10 201 rfl) rfl
theorem q2494 : (Jvm.Cond.privateMethod ({ cls := "VotingHutsModel", name := "back", desc := "(I)I" } : Jvm.MethodName)) ∈ lw_tbl := lw_at lw_m10 202 rfl
theorem q2495 : (Jvm.Cond.instanceMethod ({ cls := "VotingHutsModel", name := "back", desc := "(I)I" } : Jvm.MethodName)) ∈ lw_all := lw_g (lw_at lw_m10 203 rfl) rfl
theorem q2496 : (Jvm.Cond.code ({ cls := "VotingHutsModel", name := "back", desc := "(I)I" } : Jvm.MethodName) prog_12_method_10_code (2 : Nat) (Option.some Jvm.ClassFile.FieldType.int)) ∈ lw_all := lw_g (lw_at lw_m10 204 rfl) rfl
theorem q2498 : (Jvm.Cond.instanceMethod ({ cls := "VotingHutsModel", name := "count", desc := "(I)I" } : Jvm.MethodName)) ∈ lw_all := lw_g (lw_at lw_m10 206 rfl) rfl
theorem q2499 : (Jvm.Cond.selects "VotingHutsModel" ({ cls := "VotingHutsModel", name := "count", desc := "(I)I" } : Jvm.MethodName) ({ cls := "VotingHutsModel", name := "count", desc := "(I)I" } : Jvm.MethodName)) ∈ lw_all := lw_g (lw_at lw_m10 207 rfl) rfl
theorem q2500 : (Jvm.Cond.code ({ cls := "VotingHutsModel", name := "count", desc := "(I)I" } : Jvm.MethodName) prog_12_method_66_code (2 : Nat) (Option.some Jvm.ClassFile.FieldType.int)) ∈ lw_all := lw_g (lw_at lw_m10 208 rfl) rfl
theorem q2501 : (Jvm.Cond.methodLink "VotingHutsModel" (293 : Nat) ({ cls := "VotingHutsModel", name := "mayTwo", desc := "(ZZ)Z" } : Jvm.MethodName)) ∈ lw_all := lw_g (lw_at lw_m10 209 rfl) rfl
theorem q2502 : (Jvm.Cond.privateMethod ({ cls := "VotingHutsModel", name := "mayTwo", desc := "(ZZ)Z" } : Jvm.MethodName)) ∈ lw_tbl := lw_at lw_m10 210 rfl
theorem q2503 : (Jvm.Cond.instanceMethod ({ cls := "VotingHutsModel", name := "mayTwo", desc := "(ZZ)Z" } : Jvm.MethodName)) ∈ lw_all := lw_g (lw_at lw_m10 211 rfl) rfl
theorem q2504 : (Jvm.Cond.code ({ cls := "VotingHutsModel", name := "mayTwo", desc := "(ZZ)Z" } : Jvm.MethodName) prog_12_method_6_code (3 : Nat) (Option.some Jvm.ClassFile.FieldType.boolean)) ∈ lw_all := lw_g (lw_at lw_m10 212 rfl) rfl
theorem q2505 : (Jvm.Cond.methodLink "VotingHutsModel" (297 : Nat) ({ cls := "VotingHutsModel", name := "wiresWith", desc := "(I)I" } : Jvm.MethodName)) ∈ lw_all := lw_g (lw_at lw_m10 213 rfl) rfl
theorem q2506 : (Jvm.Cond.privateMethod ({ cls := "VotingHutsModel", name := "wiresWith", desc := "(I)I" } : Jvm.MethodName)) ∈ lw_tbl := lw_at lw_m10 214 rfl
theorem q2507 : (Jvm.Cond.instanceMethod ({ cls := "VotingHutsModel", name := "wiresWith", desc := "(I)I" } : Jvm.MethodName)) ∈ lw_all := lw_g (lw_at lw_m10 215 rfl) rfl
theorem q2508 : (Jvm.Cond.code ({ cls := "VotingHutsModel", name := "wiresWith", desc := "(I)I" } : Jvm.MethodName) prog_12_method_65_code (4 : Nat) (Option.some Jvm.ClassFile.FieldType.int)) ∈ lw_all := lw_g (lw_at lw_m10 216 rfl) rfl
theorem q2510 : (Jvm.Cond.instanceMethod ({ cls := "VotingHutsModel", name := "wire", desc := "(IIII)I" } : Jvm.MethodName)) ∈ lw_all := lw_g (lw_at lw_m10 218 rfl) rfl
theorem q2511 : (Jvm.Cond.selects "VotingHutsModel" ({ cls := "VotingHutsModel", name := "wire", desc := "(IIII)I" } : Jvm.MethodName) ({ cls := "VotingHutsModel", name := "wire", desc := "(IIII)I" } : Jvm.MethodName)) ∈ lw_all := lw_g (lw_at lw_m10 219 rfl) rfl
theorem q2512 : (Jvm.Cond.code ({ cls := "VotingHutsModel", name := "wire", desc := "(IIII)I" } : Jvm.MethodName) prog_12_method_73_code (5 : Nat) (Option.some Jvm.ClassFile.FieldType.int)) ∈ lw_all := lw_g (lw_at lw_m10 220 rfl) rfl
theorem q2513 : (Jvm.Cond.methodLink "VotingHutsModel" (306 : Nat) ({ cls := "VotingHutsModel", name := "isWire", desc := "(III)Z" } : Jvm.MethodName)) ∈ lw_all := lw_g (lw_at lw_m10 221 rfl) rfl
theorem q2514 : (Jvm.Cond.privateMethod ({ cls := "VotingHutsModel", name := "isWire", desc := "(III)Z" } : Jvm.MethodName)) ∈ lw_tbl := lw_at lw_m10 222 rfl
theorem q2515 : (Jvm.Cond.instanceMethod ({ cls := "VotingHutsModel", name := "isWire", desc := "(III)Z" } : Jvm.MethodName)) ∈ lw_all := lw_g (lw_at lw_m10 223 rfl) rfl
theorem q2516 : (Jvm.Cond.code ({ cls := "VotingHutsModel", name := "isWire", desc := "(III)Z" } : Jvm.MethodName) prog_12_method_68_code (4 : Nat) (Option.some Jvm.ClassFile.FieldType.boolean)) ∈ lw_all := lw_g (lw_at lw_m10 224 rfl) rfl
theorem q2517 : (Jvm.Cond.methodLink "VotingHutsModel" (300 : Nat) ({ cls := "VotingHutsModel", name := "isHut", desc := "(I)Z" } : Jvm.MethodName)) ∈ lw_all := lw_g (lw_at lw_m10 225 rfl) rfl
theorem q2518 : (Jvm.Cond.privateMethod ({ cls := "VotingHutsModel", name := "isHut", desc := "(I)Z" } : Jvm.MethodName)) ∈ lw_tbl := lw_at lw_m10 226 rfl
theorem q2519 : (Jvm.Cond.instanceMethod ({ cls := "VotingHutsModel", name := "isHut", desc := "(I)Z" } : Jvm.MethodName)) ∈ lw_all := lw_g (lw_at lw_m10 227 rfl) rfl
theorem q2520 : (Jvm.Cond.code ({ cls := "VotingHutsModel", name := "isHut", desc := "(I)Z" } : Jvm.MethodName) prog_12_method_67_code (2 : Nat) (Option.some Jvm.ClassFile.FieldType.boolean)) ∈ lw_all := lw_g (lw_at lw_m10 228 rfl) rfl
theorem q2522 : (Jvm.Cond.instanceMethod ({ cls := "VotingHutsModel", name := "garbles", desc := "(IIIII)Z" } : Jvm.MethodName)) ∈ lw_all := lw_g (lw_at lw_m10 230 rfl) rfl
theorem q2523 : (Jvm.Cond.selects "VotingHutsModel" ({ cls := "VotingHutsModel", name := "garbles", desc := "(IIIII)Z" } : Jvm.MethodName) ({ cls := "VotingHutsModel", name := "garbles", desc := "(IIIII)Z" } : Jvm.MethodName)) ∈ lw_all := lw_g (lw_at lw_m10 231 rfl) rfl
theorem q2524 : (Jvm.Cond.code ({ cls := "VotingHutsModel", name := "garbles", desc := "(IIIII)Z" } : Jvm.MethodName) prog_12_method_74_code (6 : Nat) (Option.some Jvm.ClassFile.FieldType.boolean)) ∈ lw_all := lw_g (lw_at lw_m10 232 rfl) rfl
theorem q2526 : (Jvm.Cond.instanceMethod ({ cls := "VotingHutsModel", name := "comes", desc := "(IIIII)I" } : Jvm.MethodName)) ∈ lw_all := lw_g (lw_at lw_m10 234 rfl) rfl
theorem q2527 : (Jvm.Cond.selects "VotingHutsModel" ({ cls := "VotingHutsModel", name := "comes", desc := "(IIIII)I" } : Jvm.MethodName) ({ cls := "VotingHutsModel", name := "comes", desc := "(IIIII)I" } : Jvm.MethodName)) ∈ lw_all := lw_g (lw_at lw_m10 235 rfl) rfl
theorem q2528 : (Jvm.Cond.code ({ cls := "VotingHutsModel", name := "comes", desc := "(IIIII)I" } : Jvm.MethodName) prog_12_method_75_code (7 : Nat) (Option.some Jvm.ClassFile.FieldType.int)) ∈ lw_all := lw_g (lw_at lw_m10 236 rfl) rfl
theorem q2529 : (Jvm.Cond.methodLink "VotingHutsModel" (309 : Nat) ({ cls := "VotingHutsModel", name := "isTen", desc := "(I)Z" } : Jvm.MethodName)) ∈ lw_all := lw_g (lw_at lw_m10 237 rfl) rfl
theorem q2530 : (Jvm.Cond.static ({ cls := "VotingHutsModel", name := "isTen", desc := "(I)Z" } : Jvm.MethodName)) ∈ lw_all := lw_g (lw_at lw_m10 238 rfl) rfl
theorem q2531 : (Jvm.Cond.code ({ cls := "VotingHutsModel", name := "isTen", desc := "(I)Z" } : Jvm.MethodName) prog_12_method_72_code (1 : Nat) (Option.some Jvm.ClassFile.FieldType.boolean)) ∈ lw_all := lw_g (lw_at lw_m10 239 rfl) rfl
theorem q2533 : (Jvm.Cond.instanceMethod ({ cls := "VotingHutsModel", name := "worstWire", desc := "()I" } : Jvm.MethodName)) ∈ lw_all := lw_g (lw_at lw_m11 1 rfl) rfl
theorem q2534 : (Jvm.Cond.selects "VotingHutsModel" ({ cls := "VotingHutsModel", name := "worstWire", desc := "()I" } : Jvm.MethodName) ({ cls := "VotingHutsModel", name := "worstWire", desc := "()I" } : Jvm.MethodName)) ∈ lw_all := lw_g (lw_at lw_m11 2 rfl) rfl
theorem q2535 : (Jvm.Cond.code ({ cls := "VotingHutsModel", name := "worstWire", desc := "()I" } : Jvm.MethodName) prog_12_method_76_code (4 : Nat) (Option.some Jvm.ClassFile.FieldType.int)) ∈ lw_all := lw_g (lw_at lw_m11 3 rfl) rfl
theorem q2536 : (Jvm.Cond.methodLink "VotingHutsModel" (312 : Nat) ({ cls := "VotingHutsModel", name := "mayLook", desc := "()Z" } : Jvm.MethodName)) ∈ lw_all := lw_g (lw_at lw_m11 4 rfl) rfl
theorem q2537 : (Jvm.Cond.privateMethod ({ cls := "VotingHutsModel", name := "mayLook", desc := "()Z" } : Jvm.MethodName)) ∈ lw_tbl := lw_at lw_m11 5 rfl
theorem q2538 : (Jvm.Cond.instanceMethod ({ cls := "VotingHutsModel", name := "mayLook", desc := "()Z" } : Jvm.MethodName)) ∈ lw_all := lw_g (lw_at lw_m11 6 rfl) rfl
theorem q2539 : (Jvm.Cond.code ({ cls := "VotingHutsModel", name := "mayLook", desc := "()Z" } : Jvm.MethodName) prog_12_method_7_code (1 : Nat) (Option.some Jvm.ClassFile.FieldType.boolean)) ∈ lw_all := lw_g (lw_at lw_m11 7 rfl) rfl
theorem q2541 : (Jvm.Cond.instanceMethod ({ cls := "VotingHutsModel", name := "stormyHours", desc := "(IIII)I" } : Jvm.MethodName)) ∈ lw_all := lw_g (lw_at lw_m11 9 rfl) rfl
theorem q2542 : (Jvm.Cond.selects "VotingHutsModel" ({ cls := "VotingHutsModel", name := "stormyHours", desc := "(IIII)I" } : Jvm.MethodName) ({ cls := "VotingHutsModel", name := "stormyHours", desc := "(IIII)I" } : Jvm.MethodName)) ∈ lw_all := lw_g (lw_at lw_m11 10 rfl) rfl
theorem q2543 : (Jvm.Cond.code ({ cls := "VotingHutsModel", name := "stormyHours", desc := "(IIII)I" } : Jvm.MethodName) prog_12_method_78_code (7 : Nat) (Option.some Jvm.ClassFile.FieldType.int)) ∈ lw_all := lw_g (lw_at lw_m11 11 rfl) rfl
theorem q2544 : (Jvm.Cond.methodLink "VotingHutsModel" (316 : Nat) ({ cls := "VotingHutsModel", name := "isStormy", desc := "(II)Z" } : Jvm.MethodName)) ∈ lw_all := lw_g (lw_at lw_m11 12 rfl) rfl
theorem q2545 : (Jvm.Cond.privateMethod ({ cls := "VotingHutsModel", name := "isStormy", desc := "(II)Z" } : Jvm.MethodName)) ∈ lw_tbl := lw_at lw_m11 13 rfl
theorem q2546 : (Jvm.Cond.instanceMethod ({ cls := "VotingHutsModel", name := "isStormy", desc := "(II)Z" } : Jvm.MethodName)) ∈ lw_all := lw_g (lw_at lw_m11 14 rfl) rfl
theorem q2547 : (Jvm.Cond.code ({ cls := "VotingHutsModel", name := "isStormy", desc := "(II)Z" } : Jvm.MethodName) prog_12_method_77_code (4 : Nat) (Option.some Jvm.ClassFile.FieldType.boolean)) ∈ lw_all := lw_g (lw_at lw_m11 15 rfl) rfl
theorem q2549 : (Jvm.Cond.instanceMethod ({ cls := "VotingHutsModel", name := "stormyWires", desc := "(II)I" } : Jvm.MethodName)) ∈ lw_all := lw_g (lw_at lw_m11 17 rfl) rfl
theorem q2550 : (Jvm.Cond.selects "VotingHutsModel" ({ cls := "VotingHutsModel", name := "stormyWires", desc := "(II)I" } : Jvm.MethodName) ({ cls := "VotingHutsModel", name := "stormyWires", desc := "(II)I" } : Jvm.MethodName)) ∈ lw_all := lw_g (lw_at lw_m11 18 rfl) rfl
theorem q2551 : (Jvm.Cond.code ({ cls := "VotingHutsModel", name := "stormyWires", desc := "(II)I" } : Jvm.MethodName) prog_12_method_79_code (5 : Nat) (Option.some Jvm.ClassFile.FieldType.int)) ∈ lw_all := lw_g (lw_at lw_m11 19 rfl) rfl
theorem q2553 : (Jvm.Cond.instanceMethod ({ cls := "VotingHutsModel", name := "calmest", desc := "(I)I" } : Jvm.MethodName)) ∈ lw_all := lw_g (lw_at lw_m11 21 rfl) rfl
theorem q2554 : (Jvm.Cond.selects "VotingHutsModel" ({ cls := "VotingHutsModel", name := "calmest", desc := "(I)I" } : Jvm.MethodName) ({ cls := "VotingHutsModel", name := "calmest", desc := "(I)I" } : Jvm.MethodName)) ∈ lw_all := lw_g (lw_at lw_m11 22 rfl) rfl
theorem q2555 : (Jvm.Cond.code ({ cls := "VotingHutsModel", name := "calmest", desc := "(I)I" } : Jvm.MethodName) prog_12_method_81_code (6 : Nat) (Option.some Jvm.ClassFile.FieldType.int)) ∈ lw_all := lw_g (lw_at lw_m11 23 rfl) rfl
theorem q2556 : (Jvm.Cond.methodLink "VotingHutsModel" (320 : Nat) ({ cls := "VotingHutsModel", name := "garbledIn", desc := "(I)I" } : Jvm.MethodName)) ∈ lw_all := lw_g (lw_at lw_m11 24 rfl) rfl
theorem q2557 : (Jvm.Cond.privateMethod ({ cls := "VotingHutsModel", name := "garbledIn", desc := "(I)I" } : Jvm.MethodName)) ∈ lw_tbl := lw_at lw_m11 25 rfl
theorem q2558 : (Jvm.Cond.instanceMethod ({ cls := "VotingHutsModel", name := "garbledIn", desc := "(I)I" } : Jvm.MethodName)) ∈ lw_all := lw_g (lw_at lw_m11 26 rfl) rfl
theorem q2559 : (Jvm.Cond.code ({ cls := "VotingHutsModel", name := "garbledIn", desc := "(I)I" } : Jvm.MethodName) prog_12_method_80_code (5 : Nat) (Option.some Jvm.ClassFile.FieldType.int)) ∈ lw_all := lw_g (lw_at lw_m11 27 rfl) rfl
theorem q2561 : (Jvm.Cond.instanceMethod ({ cls := "VotingHutsModel", name := "message", desc := "(II)I" } : Jvm.MethodName)) ∈ lw_all := lw_g (lw_at lw_m11 29 rfl) rfl
theorem q2562 : (Jvm.Cond.selects "VotingHutsModel" ({ cls := "VotingHutsModel", name := "message", desc := "(II)I" } : Jvm.MethodName) ({ cls := "VotingHutsModel", name := "message", desc := "(II)I" } : Jvm.MethodName)) ∈ lw_all := lw_g (lw_at lw_m11 30 rfl) rfl
theorem q2563 : (Jvm.Cond.code ({ cls := "VotingHutsModel", name := "message", desc := "(II)I" } : Jvm.MethodName) prog_12_method_86_code (3 : Nat) (Option.some Jvm.ClassFile.FieldType.int)) ∈ lw_all := lw_g (lw_at lw_m11 31 rfl) rfl
theorem q2564 : (Jvm.Cond.methodLink "VotingHutsModel" (303 : Nat) ({ cls := "VotingHutsModel", name := "isMessage", desc := "(I)Z" } : Jvm.MethodName)) ∈ lw_all := lw_g (lw_at lw_m11 32 rfl) rfl
theorem q2565 : (Jvm.Cond.privateMethod ({ cls := "VotingHutsModel", name := "isMessage", desc := "(I)Z" } : Jvm.MethodName)) ∈ lw_tbl := lw_at lw_m11 33 rfl
theorem q2566 : (Jvm.Cond.instanceMethod ({ cls := "VotingHutsModel", name := "isMessage", desc := "(I)Z" } : Jvm.MethodName)) ∈ lw_all := lw_g (lw_at lw_m11 34 rfl) rfl
theorem q2567 : (Jvm.Cond.code ({ cls := "VotingHutsModel", name := "isMessage", desc := "(I)Z" } : Jvm.MethodName) prog_12_method_70_code (2 : Nat) (Option.some Jvm.ClassFile.FieldType.boolean)) ∈ lw_all := lw_g (lw_at lw_m11 35 rfl) rfl
theorem q2568 : (Jvm.Cond.methodLink "VotingHutsModel" (329 : Nat) ({ cls := "VotingHutsModel", name := "rightAll", desc := "(I)I" } : Jvm.MethodName)) ∈ lw_all := lw_g (lw_at lw_m11 36 rfl) rfl
theorem q2569 : (Jvm.Cond.privateMethod ({ cls := "VotingHutsModel", name := "rightAll", desc := "(I)I" } : Jvm.MethodName)) ∈ lw_tbl := lw_at lw_m11 37 rfl
theorem q2570 : (Jvm.Cond.instanceMethod ({ cls := "VotingHutsModel", name := "rightAll", desc := "(I)I" } : Jvm.MethodName)) ∈ lw_all := lw_g (lw_at lw_m11 38 rfl) rfl
theorem q2571 : (Jvm.Cond.code ({ cls := "VotingHutsModel", name := "rightAll", desc := "(I)I" } : Jvm.MethodName) prog_12_method_85_code (2 : Nat) (Option.some Jvm.ClassFile.FieldType.int)) ∈ lw_all := lw_g (lw_at lw_m11 39 rfl) rfl
theorem q2572 : (Jvm.Cond.methodLink "VotingHutsModel" (326 : Nat) ({ cls := "VotingHutsModel", name := "rightOf", desc := "(II)I" } : Jvm.MethodName)) ∈ lw_all := lw_g (lw_at lw_m11 40 rfl) rfl
theorem q2573 : (Jvm.Cond.privateMethod ({ cls := "VotingHutsModel", name := "rightOf", desc := "(II)I" } : Jvm.MethodName)) ∈ lw_tbl := lw_at lw_m11 41 rfl
theorem q2574 : (Jvm.Cond.instanceMethod ({ cls := "VotingHutsModel", name := "rightOf", desc := "(II)I" } : Jvm.MethodName)) ∈ lw_all := lw_g (lw_at lw_m11 42 rfl) rfl
theorem q2575 : (Jvm.Cond.code ({ cls := "VotingHutsModel", name := "rightOf", desc := "(II)I" } : Jvm.MethodName) prog_12_method_84_code (5 : Nat) (Option.some Jvm.ClassFile.FieldType.int)) ∈ lw_all := lw_g (lw_at lw_m11 43 rfl) rfl
theorem q2576 : (Jvm.Cond.methodLink "VotingHutsModel" (323 : Nat) ({ cls := "VotingHutsModel", name := "digitAt", desc := "(II)I" } : Jvm.MethodName)) ∈ lw_all := lw_g (lw_at lw_m11 44 rfl) rfl
theorem q2577 : (Jvm.Cond.privateMethod ({ cls := "VotingHutsModel", name := "digitAt", desc := "(II)I" } : Jvm.MethodName)) ∈ lw_tbl := lw_at lw_m11 45 rfl
theorem q2578 : (Jvm.Cond.instanceMethod ({ cls := "VotingHutsModel", name := "digitAt", desc := "(II)I" } : Jvm.MethodName)) ∈ lw_all := lw_g (lw_at lw_m11 46 rfl) rfl
theorem q2579 : (Jvm.Cond.code ({ cls := "VotingHutsModel", name := "digitAt", desc := "(II)I" } : Jvm.MethodName) prog_12_method_83_code (3 : Nat) (Option.some Jvm.ClassFile.FieldType.int)) ∈ lw_all := lw_g (lw_at lw_m11 47 rfl) rfl
theorem q2581 : (Jvm.Cond.instanceMethod ({ cls := "VotingHutsModel", name := "digit", desc := "(II)I" } : Jvm.MethodName)) ∈ lw_all := lw_g (lw_at lw_m11 49 rfl) rfl
theorem q2582 : (Jvm.Cond.selects "VotingHutsModel" ({ cls := "VotingHutsModel", name := "digit", desc := "(II)I" } : Jvm.MethodName) ({ cls := "VotingHutsModel", name := "digit", desc := "(II)I" } : Jvm.MethodName)) ∈ lw_all := lw_g (lw_at lw_m11 50 rfl) rfl
theorem q2583 : (Jvm.Cond.code ({ cls := "VotingHutsModel", name := "digit", desc := "(II)I" } : Jvm.MethodName) prog_12_method_87_code (3 : Nat) (Option.some Jvm.ClassFile.FieldType.int)) ∈ lw_all := lw_g (lw_at lw_m11 51 rfl) rfl
theorem q2584 : (Jvm.Cond.methodLink "VotingHutsModel" (332 : Nat) ({ cls := "VotingHutsModel", name := "isPlace", desc := "(II)Z" } : Jvm.MethodName)) ∈ lw_all := lw_g (lw_at lw_m11 52 rfl) rfl
theorem q2585 : (Jvm.Cond.privateMethod ({ cls := "VotingHutsModel", name := "isPlace", desc := "(II)Z" } : Jvm.MethodName)) ∈ lw_tbl := lw_at lw_m11 53 rfl
theorem q2586 : (Jvm.Cond.instanceMethod ({ cls := "VotingHutsModel", name := "isPlace", desc := "(II)Z" } : Jvm.MethodName)) ∈ lw_all := lw_g (lw_at lw_m11 54 rfl) rfl
theorem q2587 : (Jvm.Cond.code ({ cls := "VotingHutsModel", name := "isPlace", desc := "(II)Z" } : Jvm.MethodName) prog_12_method_71_code (3 : Nat) (Option.some Jvm.ClassFile.FieldType.boolean)) ∈ lw_all := lw_g (lw_at lw_m11 55 rfl) rfl
theorem q2589 : (Jvm.Cond.instanceMethod ({ cls := "VotingHutsModel", name := "has", desc := "(III)I" } : Jvm.MethodName)) ∈ lw_all := lw_g (lw_at lw_m11 57 rfl) rfl
theorem q2590 : (Jvm.Cond.selects "VotingHutsModel" ({ cls := "VotingHutsModel", name := "has", desc := "(III)I" } : Jvm.MethodName) ({ cls := "VotingHutsModel", name := "has", desc := "(III)I" } : Jvm.MethodName)) ∈ lw_all := lw_g (lw_at lw_m11 58 rfl) rfl
theorem q2591 : (Jvm.Cond.code ({ cls := "VotingHutsModel", name := "has", desc := "(III)I" } : Jvm.MethodName) prog_12_method_89_code (4 : Nat) (Option.some Jvm.ClassFile.FieldType.int)) ∈ lw_all := lw_g (lw_at lw_m11 59 rfl) rfl
theorem q2592 : (Jvm.Cond.methodLink "VotingHutsModel" (335 : Nat) ({ cls := "VotingHutsModel", name := "mayPlace", desc := "(III)Z" } : Jvm.MethodName)) ∈ lw_all := lw_g (lw_at lw_m11 60 rfl) rfl
theorem q2593 : (Jvm.Cond.privateMethod ({ cls := "VotingHutsModel", name := "mayPlace", desc := "(III)Z" } : Jvm.MethodName)) ∈ lw_tbl := lw_at lw_m11 61 rfl
theorem q2594 : (Jvm.Cond.instanceMethod ({ cls := "VotingHutsModel", name := "mayPlace", desc := "(III)Z" } : Jvm.MethodName)) ∈ lw_all := lw_g (lw_at lw_m11 62 rfl) rfl
theorem q2595 : (Jvm.Cond.code ({ cls := "VotingHutsModel", name := "mayPlace", desc := "(III)Z" } : Jvm.MethodName) prog_12_method_88_code (4 : Nat) (Option.some Jvm.ClassFile.FieldType.boolean)) ∈ lw_all := lw_g (lw_at lw_m11 63 rfl) rfl
theorem q2597 : (Jvm.Cond.instanceMethod ({ cls := "VotingHutsModel", name := "copy", desc := "(IIII)I" } : Jvm.MethodName)) ∈ lw_all := lw_g (lw_at lw_m11 65 rfl) rfl
theorem q2598 : (Jvm.Cond.selects "VotingHutsModel" ({ cls := "VotingHutsModel", name := "copy", desc := "(IIII)I" } : Jvm.MethodName) ({ cls := "VotingHutsModel", name := "copy", desc := "(IIII)I" } : Jvm.MethodName)) ∈ lw_all := lw_g (lw_at lw_m11 66 rfl) rfl
theorem q2599 : (Jvm.Cond.code ({ cls := "VotingHutsModel", name := "copy", desc := "(IIII)I" } : Jvm.MethodName) prog_12_method_90_code (5 : Nat) (Option.some Jvm.ClassFile.FieldType.int)) ∈ lw_all := lw_g (lw_at lw_m11 67 rfl) rfl
theorem q2601 : (Jvm.Cond.instanceMethod ({ cls := "VotingHutsModel", name := "vote", desc := "(III)I" } : Jvm.MethodName)) ∈ lw_all := lw_g (lw_at lw_m11 69 rfl) rfl
theorem q2602 : (Jvm.Cond.selects "VotingHutsModel" ({ cls := "VotingHutsModel", name := "vote", desc := "(III)I" } : Jvm.MethodName) ({ cls := "VotingHutsModel", name := "vote", desc := "(III)I" } : Jvm.MethodName)) ∈ lw_all := lw_g (lw_at lw_m11 70 rfl) rfl
theorem q2603 : (Jvm.Cond.code ({ cls := "VotingHutsModel", name := "vote", desc := "(III)I" } : Jvm.MethodName) prog_12_method_94_code (4 : Nat) (Option.some Jvm.ClassFile.FieldType.int)) ∈ lw_all := lw_g (lw_at lw_m11 71 rfl) rfl
theorem q2604 : (Jvm.Cond.methodLink "VotingHutsModel" (344 : Nat) ({ cls := "VotingHutsModel", name := "voteAt", desc := "(III)I" } : Jvm.MethodName)) ∈ lw_all := lw_g (lw_at lw_m11 72 rfl) rfl
theorem q2605 : (Jvm.Cond.privateMethod ({ cls := "VotingHutsModel", name := "voteAt", desc := "(III)I" } : Jvm.MethodName)) ∈ lw_tbl := lw_at lw_m11 73 rfl
theorem q2606 : (Jvm.Cond.instanceMethod ({ cls := "VotingHutsModel", name := "voteAt", desc := "(III)I" } : Jvm.MethodName)) ∈ lw_all := lw_g (lw_at lw_m11 74 rfl) rfl
theorem q2607 : (Jvm.Cond.code ({ cls := "VotingHutsModel", name := "voteAt", desc := "(III)I" } : Jvm.MethodName) prog_12_method_93_code (5 : Nat) (Option.some Jvm.ClassFile.FieldType.int)) ∈ lw_all := lw_g (lw_at lw_m11 75 rfl) rfl
theorem q2608 : (Jvm.Cond.methodLink "VotingHutsModel" (338 : Nat) ({ cls := "VotingHutsModel", name := "cameMany", desc := "(III)I" } : Jvm.MethodName)) ∈ lw_all := lw_g (lw_at lw_m11 76 rfl) rfl
theorem q2609 : (Jvm.Cond.privateMethod ({ cls := "VotingHutsModel", name := "cameMany", desc := "(III)I" } : Jvm.MethodName)) ∈ lw_tbl := lw_at lw_m11 77 rfl
theorem q2610 : (Jvm.Cond.instanceMethod ({ cls := "VotingHutsModel", name := "cameMany", desc := "(III)I" } : Jvm.MethodName)) ∈ lw_all := lw_g (lw_at lw_m11 78 rfl) rfl
theorem q2611 : (Jvm.Cond.code ({ cls := "VotingHutsModel", name := "cameMany", desc := "(III)I" } : Jvm.MethodName) prog_12_method_91_code (6 : Nat) (Option.some Jvm.ClassFile.FieldType.int)) ∈ lw_all := lw_g (lw_at lw_m11 79 rfl) rfl
theorem q2612 : (Jvm.Cond.methodLink "VotingHutsModel" (341 : Nat) ({ cls := "VotingHutsModel", name := "allAgree", desc := "(III)Z" } : Jvm.MethodName)) ∈ lw_all := lw_g (lw_at lw_m11 80 rfl) rfl
theorem q2613 : (Jvm.Cond.privateMethod ({ cls := "VotingHutsModel", name := "allAgree", desc := "(III)Z" } : Jvm.MethodName)) ∈ lw_tbl := lw_at lw_m11 81 rfl
theorem q2614 : (Jvm.Cond.instanceMethod ({ cls := "VotingHutsModel", name := "allAgree", desc := "(III)Z" } : Jvm.MethodName)) ∈ lw_all := lw_g (lw_at lw_m11 82 rfl) rfl
theorem q2615 : (Jvm.Cond.code ({ cls := "VotingHutsModel", name := "allAgree", desc := "(III)Z" } : Jvm.MethodName) prog_12_method_92_code (4 : Nat) (Option.some Jvm.ClassFile.FieldType.boolean)) ∈ lw_all := lw_g (lw_at lw_m11 83 rfl) rfl
theorem q2617 : (Jvm.Cond.instanceMethod ({ cls := "VotingHutsModel", name := "unsure", desc := "(II)I" } : Jvm.MethodName)) ∈ lw_all := lw_g (lw_at lw_m11 85 rfl) rfl
theorem q2618 : (Jvm.Cond.selects "VotingHutsModel" ({ cls := "VotingHutsModel", name := "unsure", desc := "(II)I" } : Jvm.MethodName) ({ cls := "VotingHutsModel", name := "unsure", desc := "(II)I" } : Jvm.MethodName)) ∈ lw_all := lw_g (lw_at lw_m11 86 rfl) rfl
theorem q2619 : (Jvm.Cond.code ({ cls := "VotingHutsModel", name := "unsure", desc := "(II)I" } : Jvm.MethodName) prog_12_method_95_code (3 : Nat) (Option.some Jvm.ClassFile.FieldType.int)) ∈ lw_all := lw_g (lw_at lw_m11 87 rfl) rfl
theorem q2621 : (Jvm.Cond.instanceMethod ({ cls := "VotingHutsModel", name := "wrong", desc := "(II)I" } : Jvm.MethodName)) ∈ lw_all := lw_g (lw_at lw_m11 89 rfl) rfl
theorem q2622 : (Jvm.Cond.selects "VotingHutsModel" ({ cls := "VotingHutsModel", name := "wrong", desc := "(II)I" } : Jvm.MethodName) ({ cls := "VotingHutsModel", name := "wrong", desc := "(II)I" } : Jvm.MethodName)) ∈ lw_all := lw_g (lw_at lw_m11 90 rfl) rfl
theorem q2623 : (Jvm.Cond.code ({ cls := "VotingHutsModel", name := "wrong", desc := "(II)I" } : Jvm.MethodName) prog_12_method_96_code (3 : Nat) (Option.some Jvm.ClassFile.FieldType.int)) ∈ lw_all := lw_g (lw_at lw_m11 91 rfl) rfl
theorem q2625 : (Jvm.Cond.instanceMethod ({ cls := "VotingHutsModel", name := "believed", desc := "(II)I" } : Jvm.MethodName)) ∈ lw_all := lw_g (lw_at lw_m11 93 rfl) rfl
theorem q2626 : (Jvm.Cond.selects "VotingHutsModel" ({ cls := "VotingHutsModel", name := "believed", desc := "(II)I" } : Jvm.MethodName) ({ cls := "VotingHutsModel", name := "believed", desc := "(II)I" } : Jvm.MethodName)) ∈ lw_all := lw_g (lw_at lw_m11 94 rfl) rfl
theorem q2627 : (Jvm.Cond.code ({ cls := "VotingHutsModel", name := "believed", desc := "(II)I" } : Jvm.MethodName) prog_12_method_98_code (3 : Nat) (Option.some Jvm.ClassFile.FieldType.int)) ∈ lw_all := lw_g (lw_at lw_m11 95 rfl) rfl
theorem q2628 : (Jvm.Cond.methodLink "VotingHutsModel" (347 : Nat) ({ cls := "VotingHutsModel", name := "believedAt", desc := "(II)I" } : Jvm.MethodName)) ∈ lw_all := lw_g (lw_at lw_m11 96 rfl) rfl
theorem q2629 : (Jvm.Cond.privateMethod ({ cls := "VotingHutsModel", name := "believedAt", desc := "(II)I" } : Jvm.MethodName)) ∈ lw_tbl := lw_at lw_m11 97 rfl
theorem q2630 : (Jvm.Cond.instanceMethod ({ cls := "VotingHutsModel", name := "believedAt", desc := "(II)I" } : Jvm.MethodName)) ∈ lw_all := lw_g (lw_at lw_m11 98 rfl) rfl
theorem q2631 : (Jvm.Cond.code ({ cls := "VotingHutsModel", name := "believedAt", desc := "(II)I" } : Jvm.MethodName) prog_12_method_97_code (3 : Nat) (Option.some Jvm.ClassFile.FieldType.int)) ∈ lw_all := lw_g (lw_at lw_m11 99 rfl) rfl
theorem q2633 : (Jvm.Cond.instanceMethod ({ cls := "VotingHutsModel", name := "right", desc := "(I)I" } : Jvm.MethodName)) ∈ lw_all := lw_g (lw_at lw_m11 101 rfl) rfl
theorem q2634 : (Jvm.Cond.selects "VotingHutsModel" ({ cls := "VotingHutsModel", name := "right", desc := "(I)I" } : Jvm.MethodName) ({ cls := "VotingHutsModel", name := "right", desc := "(I)I" } : Jvm.MethodName)) ∈ lw_all := lw_g (lw_at lw_m11 102 rfl) rfl
theorem q2635 : (Jvm.Cond.code ({ cls := "VotingHutsModel", name := "right", desc := "(I)I" } : Jvm.MethodName) prog_12_method_100_code (2 : Nat) (Option.some Jvm.ClassFile.FieldType.int)) ∈ lw_all := lw_g (lw_at lw_m11 103 rfl) rfl
theorem q2636 : (Jvm.Cond.methodLink "VotingHutsModel" (350 : Nat) ({ cls := "VotingHutsModel", name := "mayMessage", desc := "(I)Z" } : Jvm.MethodName)) ∈ lw_all := lw_g (lw_at lw_m11 104 rfl) rfl
theorem q2637 : (Jvm.Cond.privateMethod ({ cls := "VotingHutsModel", name := "mayMessage", desc := "(I)Z" } : Jvm.MethodName)) ∈ lw_tbl := lw_at lw_m11 105 rfl
theorem q2638 : (Jvm.Cond.instanceMethod ({ cls := "VotingHutsModel", name := "mayMessage", desc := "(I)Z" } : Jvm.MethodName)) ∈ lw_all := lw_g (lw_at lw_m11 106 rfl) rfl
theorem q2639 : (Jvm.Cond.code ({ cls := "VotingHutsModel", name := "mayMessage", desc := "(I)Z" } : Jvm.MethodName) prog_12_method_82_code (2 : Nat) (Option.some Jvm.ClassFile.FieldType.boolean)) ∈ lw_all := lw_g (lw_at lw_m11 107 rfl) rfl
theorem q2640 : (Jvm.Cond.methodLink "VotingHutsModel" (353 : Nat) ({ cls := "VotingHutsModel", name := "rightPlaces", desc := "(I)I" } : Jvm.MethodName)) ∈ lw_all := lw_g (lw_at lw_m11 108 rfl) rfl
theorem q2641 : (Jvm.Cond.privateMethod ({ cls := "VotingHutsModel", name := "rightPlaces", desc := "(I)I" } : Jvm.MethodName)) ∈ lw_tbl := lw_at lw_m11 109 rfl
theorem q2642 : (Jvm.Cond.instanceMethod ({ cls := "VotingHutsModel", name := "rightPlaces", desc := "(I)I" } : Jvm.MethodName)) ∈ lw_all := lw_g (lw_at lw_m11 110 rfl) rfl
theorem q2643 : (Jvm.Cond.code ({ cls := "VotingHutsModel", name := "rightPlaces", desc := "(I)I" } : Jvm.MethodName) prog_12_method_99_code (4 : Nat) (Option.some Jvm.ClassFile.FieldType.int)) ∈ lw_all := lw_g (lw_at lw_m11 111 rfl) rfl
theorem q2645 : (Jvm.Cond.instanceMethod ({ cls := "VotingHutsModel", name := "liar", desc := "(I)I" } : Jvm.MethodName)) ∈ lw_all := lw_g (lw_at lw_m11 113 rfl) rfl
theorem q2646 : (Jvm.Cond.selects "VotingHutsModel" ({ cls := "VotingHutsModel", name := "liar", desc := "(I)I" } : Jvm.MethodName) ({ cls := "VotingHutsModel", name := "liar", desc := "(I)I" } : Jvm.MethodName)) ∈ lw_all := lw_g (lw_at lw_m11 114 rfl) rfl
theorem q2647 : (Jvm.Cond.code ({ cls := "VotingHutsModel", name := "liar", desc := "(I)I" } : Jvm.MethodName) prog_12_method_102_code (5 : Nat) (Option.some Jvm.ClassFile.FieldType.int)) ∈ lw_all := lw_g (lw_at lw_m11 115 rfl) rfl
theorem q2648 : (Jvm.Cond.methodLink "VotingHutsModel" (356 : Nat) ({ cls := "VotingHutsModel", name := "liesOf", desc := "(II)I" } : Jvm.MethodName)) ∈ lw_all := lw_g (lw_at lw_m11 116 rfl) rfl
theorem q2649 : (Jvm.Cond.privateMethod ({ cls := "VotingHutsModel", name := "liesOf", desc := "(II)I" } : Jvm.MethodName)) ∈ lw_tbl := lw_at lw_m11 117 rfl
theorem q2650 : (Jvm.Cond.instanceMethod ({ cls := "VotingHutsModel", name := "liesOf", desc := "(II)I" } : Jvm.MethodName)) ∈ lw_all := lw_g (lw_at lw_m11 118 rfl) rfl
theorem q2651 : (Jvm.Cond.code ({ cls := "VotingHutsModel", name := "liesOf", desc := "(II)I" } : Jvm.MethodName) prog_12_method_101_code (5 : Nat) (Option.some Jvm.ClassFile.FieldType.int)) ∈ lw_all := lw_g (lw_at lw_m11 119 rfl) rfl
theorem q2653 : (Jvm.Cond.instanceMethod ({ cls := "VotingHutsModel", name := "firstWrong", desc := "(I)I" } : Jvm.MethodName)) ∈ lw_all := lw_g (lw_at lw_m11 121 rfl) rfl
theorem q2654 : (Jvm.Cond.selects "VotingHutsModel" ({ cls := "VotingHutsModel", name := "firstWrong", desc := "(I)I" } : Jvm.MethodName) ({ cls := "VotingHutsModel", name := "firstWrong", desc := "(I)I" } : Jvm.MethodName)) ∈ lw_all := lw_g (lw_at lw_m11 122 rfl) rfl
theorem q2655 : (Jvm.Cond.code ({ cls := "VotingHutsModel", name := "firstWrong", desc := "(I)I" } : Jvm.MethodName) prog_12_method_103_code (3 : Nat) (Option.some Jvm.ClassFile.FieldType.int)) ∈ lw_all := lw_g (lw_at lw_m11 123 rfl) rfl
theorem q2657 : (Jvm.Cond.instanceMethod ({ cls := "VotingHutsModel", name := "doubtful", desc := "(I)I" } : Jvm.MethodName)) ∈ lw_all := lw_g (lw_at lw_m11 125 rfl) rfl
theorem q2658 : (Jvm.Cond.selects "VotingHutsModel" ({ cls := "VotingHutsModel", name := "doubtful", desc := "(I)I" } : Jvm.MethodName) ({ cls := "VotingHutsModel", name := "doubtful", desc := "(I)I" } : Jvm.MethodName)) ∈ lw_all := lw_g (lw_at lw_m11 126 rfl) rfl
theorem q2659 : (Jvm.Cond.code ({ cls := "VotingHutsModel", name := "doubtful", desc := "(I)I" } : Jvm.MethodName) prog_12_method_105_code (4 : Nat) (Option.some Jvm.ClassFile.FieldType.int)) ∈ lw_all := lw_g (lw_at lw_m11 127 rfl) rfl
theorem q2660 : (Jvm.Cond.methodLink "VotingHutsModel" (359 : Nat) ({ cls := "VotingHutsModel", name := "isDoubtful", desc := "(II)Z" } : Jvm.MethodName)) ∈ lw_all := lw_g (lw_at lw_m11 128 rfl) rfl
theorem q2661 : (Jvm.Cond.privateMethod ({ cls := "VotingHutsModel", name := "isDoubtful", desc := "(II)Z" } : Jvm.MethodName)) ∈ lw_tbl := lw_at lw_m11 129 rfl
theorem q2662 : (Jvm.Cond.instanceMethod ({ cls := "VotingHutsModel", name := "isDoubtful", desc := "(II)Z" } : Jvm.MethodName)) ∈ lw_all := lw_g (lw_at lw_m11 130 rfl) rfl
theorem q2663 : (Jvm.Cond.code ({ cls := "VotingHutsModel", name := "isDoubtful", desc := "(II)Z" } : Jvm.MethodName) prog_12_method_104_code (4 : Nat) (Option.some Jvm.ClassFile.FieldType.boolean)) ∈ lw_all := lw_g (lw_at lw_m11 131 rfl) rfl
theorem q2665 : (Jvm.Cond.instanceMethod ({ cls := "VotingHutsModel", name := "agreeing", desc := "(I)I" } : Jvm.MethodName)) ∈ lw_all := lw_g (lw_at lw_m11 133 rfl) rfl
theorem q2666 : (Jvm.Cond.selects "VotingHutsModel" ({ cls := "VotingHutsModel", name := "agreeing", desc := "(I)I" } : Jvm.MethodName) ({ cls := "VotingHutsModel", name := "agreeing", desc := "(I)I" } : Jvm.MethodName)) ∈ lw_all := lw_g (lw_at lw_m11 134 rfl) rfl
theorem q2667 : (Jvm.Cond.code ({ cls := "VotingHutsModel", name := "agreeing", desc := "(I)I" } : Jvm.MethodName) prog_12_method_107_code (5 : Nat) (Option.some Jvm.ClassFile.FieldType.int)) ∈ lw_all := lw_g (lw_at lw_m11 135 rfl) rfl
theorem q2668 : (Jvm.Cond.methodLink "VotingHutsModel" (362 : Nat) ({ cls := "VotingHutsModel", name := "sameMany", desc := "(III)I" } : Jvm.MethodName)) ∈ lw_all := lw_g (lw_at lw_m11 136 rfl) rfl
theorem q2669 : (Jvm.Cond.privateMethod ({ cls := "VotingHutsModel", name := "sameMany", desc := "(III)I" } : Jvm.MethodName)) ∈ lw_tbl := lw_at lw_m11 137 rfl
theorem q2670 : (Jvm.Cond.instanceMethod ({ cls := "VotingHutsModel", name := "sameMany", desc := "(III)I" } : Jvm.MethodName)) ∈ lw_all := lw_g (lw_at lw_m11 138 rfl) rfl
theorem q2671 : (Jvm.Cond.code ({ cls := "VotingHutsModel", name := "sameMany", desc := "(III)I" } : Jvm.MethodName) prog_12_method_106_code (6 : Nat) (Option.some Jvm.ClassFile.FieldType.int)) ∈ lw_all := lw_g (lw_at lw_m11 139 rfl) rfl
theorem q2673 : (Jvm.Cond.instanceMethod ({ cls := "VotingHutsModel", name := "oldest", desc := "()I" } : Jvm.MethodName)) ∈ lw_all := lw_g (lw_at lw_m11 141 rfl) rfl
theorem q2674 : (Jvm.Cond.selects "VotingHutsModel" ({ cls := "VotingHutsModel", name := "oldest", desc := "()I" } : Jvm.MethodName) ({ cls := "VotingHutsModel", name := "oldest", desc := "()I" } : Jvm.MethodName)) ∈ lw_all := lw_g (lw_at lw_m11 142 rfl) rfl
theorem q2675 : (Jvm.Cond.code ({ cls := "VotingHutsModel", name := "oldest", desc := "()I" } : Jvm.MethodName) prog_12_method_108_code (3 : Nat) (Option.some Jvm.ClassFile.FieldType.int)) ∈ lw_all := lw_g (lw_at lw_m11 143 rfl) rfl
theorem q2677 : (Jvm.Cond.instanceMethod ({ cls := "VotingHutsModel", name := "next", desc := "(I)I" } : Jvm.MethodName)) ∈ lw_all := lw_g (lw_at lw_m11 145 rfl) rfl
theorem q2678 : (Jvm.Cond.selects "VotingHutsModel" ({ cls := "VotingHutsModel", name := "next", desc := "(I)I" } : Jvm.MethodName) ({ cls := "VotingHutsModel", name := "next", desc := "(I)I" } : Jvm.MethodName)) ∈ lw_all := lw_g (lw_at lw_m11 146 rfl) rfl
theorem q2679 : (Jvm.Cond.code ({ cls := "VotingHutsModel", name := "next", desc := "(I)I" } : Jvm.MethodName) prog_12_method_110_code (2 : Nat) (Option.some Jvm.ClassFile.FieldType.int)) ∈ lw_all := lw_g (lw_at lw_m11 147 rfl) rfl
theorem q2680 : (Jvm.Cond.methodLink "VotingHutsModel" (365 : Nat) ({ cls := "VotingHutsModel", name := "nextOf", desc := "(I)I" } : Jvm.MethodName)) ∈ lw_all := lw_g (lw_at lw_m11 148 rfl) rfl
theorem q2681 : (Jvm.Cond.privateMethod ({ cls := "VotingHutsModel", name := "nextOf", desc := "(I)I" } : Jvm.MethodName)) ∈ lw_tbl := lw_at lw_m11 149 rfl
theorem q2682 : (Jvm.Cond.instanceMethod ({ cls := "VotingHutsModel", name := "nextOf", desc := "(I)I" } : Jvm.MethodName)) ∈ lw_all := lw_g (lw_at lw_m11 150 rfl) rfl
theorem q2683 : (Jvm.Cond.code ({ cls := "VotingHutsModel", name := "nextOf", desc := "(I)I" } : Jvm.MethodName) prog_12_method_109_code (2 : Nat) (Option.some Jvm.ClassFile.FieldType.int)) ∈ lw_all := lw_g (lw_at lw_m11 151 rfl) rfl
theorem q2685 : (Jvm.Cond.instanceMethod ({ cls := "VotingHutsModel", name := "gap", desc := "()I" } : Jvm.MethodName)) ∈ lw_all := lw_g (lw_at lw_m11 153 rfl) rfl
theorem q2686 : (Jvm.Cond.selects "VotingHutsModel" ({ cls := "VotingHutsModel", name := "gap", desc := "()I" } : Jvm.MethodName) ({ cls := "VotingHutsModel", name := "gap", desc := "()I" } : Jvm.MethodName)) ∈ lw_all := lw_g (lw_at lw_m11 154 rfl) rfl
theorem q2687 : (Jvm.Cond.code ({ cls := "VotingHutsModel", name := "gap", desc := "()I" } : Jvm.MethodName) prog_12_method_113_code (3 : Nat) (Option.some Jvm.ClassFile.FieldType.int)) ∈ lw_all := lw_g (lw_at lw_m11 155 rfl) rfl
theorem q2688 : (Jvm.Cond.methodLink "VotingHutsModel" (368 : Nat) ({ cls := "VotingHutsModel", name := "ofAllWires", desc := "(I)I" } : Jvm.MethodName)) ∈ lw_all := lw_g (lw_at lw_m11 156 rfl) rfl
theorem q2689 : (Jvm.Cond.privateMethod ({ cls := "VotingHutsModel", name := "ofAllWires", desc := "(I)I" } : Jvm.MethodName)) ∈ lw_tbl := lw_at lw_m11 157 rfl
theorem q2690 : (Jvm.Cond.instanceMethod ({ cls := "VotingHutsModel", name := "ofAllWires", desc := "(I)I" } : Jvm.MethodName)) ∈ lw_all := lw_g (lw_at lw_m11 158 rfl) rfl
theorem q2691 : (Jvm.Cond.code ({ cls := "VotingHutsModel", name := "ofAllWires", desc := "(I)I" } : Jvm.MethodName) prog_12_method_112_code (4 : Nat) (Option.some Jvm.ClassFile.FieldType.int)) ∈ lw_all := lw_g (lw_at lw_m11 159 rfl) rfl
theorem q2692 : (Jvm.Cond.methodLink "VotingHutsModel" (371 : Nat) ({ cls := "java/lang/Math", name := "abs", desc := "(I)I" } : Jvm.MethodName)) ∈ lw_all := lw_g (lw_at lw_m11 160 rfl) rfl
theorem q2693 : (Jvm.Cond.methodLink "VotingHutsModel" (376 : Nat) ({ cls := "VotingHutsModel", name := "unlikeCopies", desc := "(I)I" } : Jvm.MethodName)) ∈ lw_all := lw_g (lw_at lw_m11 161 rfl) rfl
theorem q2694 : (Jvm.Cond.privateMethod ({ cls := "VotingHutsModel", name := "unlikeCopies", desc := "(I)I" } : Jvm.MethodName)) ∈ lw_tbl := lw_at lw_m11 162 rfl
theorem q2695 : (Jvm.Cond.instanceMethod ({ cls := "VotingHutsModel", name := "unlikeCopies", desc := "(I)I" } : Jvm.MethodName)) ∈ lw_all := lw_g (lw_at lw_m11 163 rfl) rfl
theorem q2696 : (Jvm.Cond.code ({ cls := "VotingHutsModel", name := "unlikeCopies", desc := "(I)I" } : Jvm.MethodName) prog_12_method_111_code (5 : Nat) (Option.some Jvm.ClassFile.FieldType.int)) ∈ lw_all := lw_g (lw_at lw_m11 164 rfl) rfl
theorem q2698 : (Jvm.Cond.instanceMethod ({ cls := "VotingHutsModel", name := "logged", desc := "(II)I" } : Jvm.MethodName)) ∈ lw_all := lw_g (lw_at lw_m11 166 rfl) rfl
theorem q2699 : (Jvm.Cond.selects "VotingHutsModel" ({ cls := "VotingHutsModel", name := "logged", desc := "(II)I" } : Jvm.MethodName) ({ cls := "VotingHutsModel", name := "logged", desc := "(II)I" } : Jvm.MethodName)) ∈ lw_all := lw_g (lw_at lw_m11 167 rfl) rfl
theorem q2700 : (Jvm.Cond.code ({ cls := "VotingHutsModel", name := "logged", desc := "(II)I" } : Jvm.MethodName) prog_12_method_114_code (3 : Nat) (Option.some Jvm.ClassFile.FieldType.int)) ∈ lw_all := lw_g (lw_at lw_m11 168 rfl) rfl
theorem q2702 : (Jvm.Cond.instanceMethod ({ cls := "VotingHutsModel", name := "entries", desc := "(I)I" } : Jvm.MethodName)) ∈ lw_all := lw_g (lw_at lw_m11 170 rfl) rfl
theorem q2703 : (Jvm.Cond.selects "VotingHutsModel" ({ cls := "VotingHutsModel", name := "entries", desc := "(I)I" } : Jvm.MethodName) ({ cls := "VotingHutsModel", name := "entries", desc := "(I)I" } : Jvm.MethodName)) ∈ lw_all := lw_g (lw_at lw_m11 171 rfl) rfl
theorem q2704 : (Jvm.Cond.code ({ cls := "VotingHutsModel", name := "entries", desc := "(I)I" } : Jvm.MethodName) prog_12_method_115_code (4 : Nat) (Option.some Jvm.ClassFile.FieldType.int)) ∈ lw_all := lw_g (lw_at lw_m11 172 rfl) rfl
theorem q2706 : (Jvm.Cond.instanceMethod ({ cls := "VotingHutsModel", name := "arrivesIn", desc := "(I)I" } : Jvm.MethodName)) ∈ lw_all := lw_g (lw_at lw_m11 174 rfl) rfl
theorem q2707 : (Jvm.Cond.selects "VotingHutsModel" ({ cls := "VotingHutsModel", name := "arrivesIn", desc := "(I)I" } : Jvm.MethodName) ({ cls := "VotingHutsModel", name := "arrivesIn", desc := "(I)I" } : Jvm.MethodName)) ∈ lw_all := lw_g (lw_at lw_m11 175 rfl) rfl
theorem q2708 : (Jvm.Cond.code ({ cls := "VotingHutsModel", name := "arrivesIn", desc := "(I)I" } : Jvm.MethodName) prog_12_method_117_code (2 : Nat) (Option.some Jvm.ClassFile.FieldType.int)) ∈ lw_all := lw_g (lw_at lw_m11 176 rfl) rfl
theorem q2709 : (Jvm.Cond.methodLink "VotingHutsModel" (379 : Nat) ({ cls := "VotingHutsModel", name := "arrives", desc := "(I)I" } : Jvm.MethodName)) ∈ lw_all := lw_g (lw_at lw_m11 177 rfl) rfl
theorem q2710 : (Jvm.Cond.privateMethod ({ cls := "VotingHutsModel", name := "arrives", desc := "(I)I" } : Jvm.MethodName)) ∈ lw_tbl := lw_at lw_m11 178 rfl
theorem q2711 : (Jvm.Cond.instanceMethod ({ cls := "VotingHutsModel", name := "arrives", desc := "(I)I" } : Jvm.MethodName)) ∈ lw_all := lw_g (lw_at lw_m11 179 rfl) rfl
theorem q2712 : (Jvm.Cond.code ({ cls := "VotingHutsModel", name := "arrives", desc := "(I)I" } : Jvm.MethodName) prog_12_method_116_code (4 : Nat) (Option.some Jvm.ClassFile.FieldType.int)) ∈ lw_all := lw_g (lw_at lw_m11 180 rfl) rfl
theorem q2714 : (Jvm.Cond.instanceMethod ({ cls := "VotingHutsModel", name := "rightThen", desc := "(I)I" } : Jvm.MethodName)) ∈ lw_all := lw_g (lw_at lw_m11 182 rfl) rfl
theorem q2715 : (Jvm.Cond.selects "VotingHutsModel" ({ cls := "VotingHutsModel", name := "rightThen", desc := "(I)I" } : Jvm.MethodName) ({ cls := "VotingHutsModel", name := "rightThen", desc := "(I)I" } : Jvm.MethodName)) ∈ lw_all := lw_g (lw_at lw_m11 183 rfl) rfl
theorem q2716 : (Jvm.Cond.code ({ cls := "VotingHutsModel", name := "rightThen", desc := "(I)I" } : Jvm.MethodName) prog_12_method_119_code (2 : Nat) (Option.some Jvm.ClassFile.FieldType.int)) ∈ lw_all := lw_g (lw_at lw_m11 184 rfl) rfl
theorem q2717 : (Jvm.Cond.methodLink "VotingHutsModel" (382 : Nat) ({ cls := "VotingHutsModel", name := "rightAtEnd", desc := "(I)I" } : Jvm.MethodName)) ∈ lw_all := lw_g (lw_at lw_m11 185 rfl) rfl
theorem q2718 : (Jvm.Cond.privateMethod ({ cls := "VotingHutsModel", name := "rightAtEnd", desc := "(I)I" } : Jvm.MethodName)) ∈ lw_tbl := lw_at lw_m11 186 rfl
theorem q2719 : (Jvm.Cond.instanceMethod ({ cls := "VotingHutsModel", name := "rightAtEnd", desc := "(I)I" } : Jvm.MethodName)) ∈ lw_all := lw_g (lw_at lw_m11 187 rfl) rfl
theorem q2720 : (Jvm.Cond.code ({ cls := "VotingHutsModel", name := "rightAtEnd", desc := "(I)I" } : Jvm.MethodName) prog_12_method_118_code (3 : Nat) (Option.some Jvm.ClassFile.FieldType.int)) ∈ lw_all := lw_g (lw_at lw_m11 188 rfl) rfl
theorem q2722 : (Jvm.Cond.instanceMethod ({ cls := "VotingHutsModel", name := "believedThen", desc := "(II)I" } : Jvm.MethodName)) ∈ lw_all := lw_g (lw_at lw_m11 190 rfl) rfl
theorem q2723 : (Jvm.Cond.selects "VotingHutsModel" ({ cls := "VotingHutsModel", name := "believedThen", desc := "(II)I" } : Jvm.MethodName) ({ cls := "VotingHutsModel", name := "believedThen", desc := "(II)I" } : Jvm.MethodName)) ∈ lw_all := lw_g (lw_at lw_m11 191 rfl) rfl
theorem q2724 : (Jvm.Cond.code ({ cls := "VotingHutsModel", name := "believedThen", desc := "(II)I" } : Jvm.MethodName) prog_12_method_120_code (4 : Nat) (Option.some Jvm.ClassFile.FieldType.int)) ∈ lw_all := lw_g (lw_at lw_m11 192 rfl) rfl
theorem q2726 : (Jvm.Cond.instanceMethod ({ cls := "VotingHutsModel", name := "rightIf", desc := "(IIII)I" } : Jvm.MethodName)) ∈ lw_all := lw_g (lw_at lw_m11 194 rfl) rfl
theorem q2727 : (Jvm.Cond.selects "VotingHutsModel" ({ cls := "VotingHutsModel", name := "rightIf", desc := "(IIII)I" } : Jvm.MethodName) ({ cls := "VotingHutsModel", name := "rightIf", desc := "(IIII)I" } : Jvm.MethodName)) ∈ lw_all := lw_g (lw_at lw_m11 195 rfl) rfl
theorem q2728 : (Jvm.Cond.code ({ cls := "VotingHutsModel", name := "rightIf", desc := "(IIII)I" } : Jvm.MethodName) prog_12_method_123_code (5 : Nat) (Option.some Jvm.ClassFile.FieldType.int)) ∈ lw_all := lw_g (lw_at lw_m11 196 rfl) rfl
theorem q2729 : (Jvm.Cond.methodLink "VotingHutsModel" (388 : Nat) ({ cls := "VotingHutsModel", name := "areBoth", desc := "(II)Z" } : Jvm.MethodName)) ∈ lw_all := lw_g (lw_at lw_m11 197 rfl) rfl
theorem q2730 : (Jvm.Cond.privateMethod ({ cls := "VotingHutsModel", name := "areBoth", desc := "(II)Z" } : Jvm.MethodName)) ∈ lw_tbl := lw_at lw_m11 198 rfl
theorem q2731 : (Jvm.Cond.instanceMethod ({ cls := "VotingHutsModel", name := "areBoth", desc := "(II)Z" } : Jvm.MethodName)) ∈ lw_all := lw_g (lw_at lw_m11 199 rfl) rfl
theorem q2732 : (Jvm.Cond.code ({ cls := "VotingHutsModel", name := "areBoth", desc := "(II)Z" } : Jvm.MethodName) prog_12_method_121_code (3 : Nat) (Option.some Jvm.ClassFile.FieldType.boolean)) ∈ lw_all := lw_g (lw_at lw_m11 200 rfl) rfl
theorem q2733 : (Jvm.Cond.methodLink "VotingHutsModel" (385 : Nat) ({ cls := "VotingHutsModel", name := "isWireNumber", desc := "(I)Z" } : Jvm.MethodName)) ∈ lw_all := lw_g (lw_at lw_m11 201 rfl) rfl
theorem q2734 : (Jvm.Cond.privateMethod ({ cls := "VotingHutsModel", name := "isWireNumber", desc := "(I)Z" } : Jvm.MethodName)) ∈ lw_tbl := lw_at lw_m11 202 rfl
theorem q2735 : (Jvm.Cond.instanceMethod ({ cls := "VotingHutsModel", name := "isWireNumber", desc := "(I)Z" } : Jvm.MethodName)) ∈ lw_all := lw_g (lw_at lw_m11 203 rfl) rfl
theorem q2736 : (Jvm.Cond.code ({ cls := "VotingHutsModel", name := "isWireNumber", desc := "(I)Z" } : Jvm.MethodName) prog_12_method_69_code (2 : Nat) (Option.some Jvm.ClassFile.FieldType.boolean)) ∈ lw_all := lw_g (lw_at lw_m11 204 rfl) rfl
theorem q2737 : (Jvm.Cond.methodLink "VotingHutsModel" (391 : Nat) ({ cls := "VotingHutsModel", name := "rightWith", desc := "(IIII)I" } : Jvm.MethodName)) ∈ lw_all := lw_g (lw_at lw_m11 205 rfl) rfl
theorem q2738 : (Jvm.Cond.privateMethod ({ cls := "VotingHutsModel", name := "rightWith", desc := "(IIII)I" } : Jvm.MethodName)) ∈ lw_tbl := lw_at lw_m11 206 rfl
theorem q2739 : (Jvm.Cond.instanceMethod ({ cls := "VotingHutsModel", name := "rightWith", desc := "(IIII)I" } : Jvm.MethodName)) ∈ lw_all := lw_g (lw_at lw_m11 207 rfl) rfl
theorem q2740 : (Jvm.Cond.code ({ cls := "VotingHutsModel", name := "rightWith", desc := "(IIII)I" } : Jvm.MethodName) prog_12_method_122_code (5 : Nat) (Option.some Jvm.ClassFile.FieldType.int)) ∈ lw_all := lw_g (lw_at lw_m11 208 rfl) rfl
theorem q2742 : (Jvm.Cond.instanceMethod ({ cls := "VotingHutsModel", name := "needless", desc := "(II)Z" } : Jvm.MethodName)) ∈ lw_all := lw_g (lw_at lw_m11 210 rfl) rfl
theorem q2743 : (Jvm.Cond.selects "VotingHutsModel" ({ cls := "VotingHutsModel", name := "needless", desc := "(II)Z" } : Jvm.MethodName) ({ cls := "VotingHutsModel", name := "needless", desc := "(II)Z" } : Jvm.MethodName)) ∈ lw_all := lw_g (lw_at lw_m11 211 rfl) rfl
theorem q2744 : (Jvm.Cond.code ({ cls := "VotingHutsModel", name := "needless", desc := "(II)Z" } : Jvm.MethodName) prog_12_method_126_code (3 : Nat) (Option.some Jvm.ClassFile.FieldType.boolean)) ∈ lw_all := lw_g (lw_at lw_m11 212 rfl) rfl
theorem q2745 : (Jvm.Cond.methodLink "VotingHutsModel" (398 : Nat) ({ cls := "VotingHutsModel", name := "isNeedless", desc := "(II)Z" } : Jvm.MethodName)) ∈ lw_all := lw_g (lw_at lw_m11 213 rfl) rfl
theorem q2746 : (Jvm.Cond.privateMethod ({ cls := "VotingHutsModel", name := "isNeedless", desc := "(II)Z" } : Jvm.MethodName)) ∈ lw_tbl := lw_at lw_m11 214 rfl
theorem q2747 : (Jvm.Cond.instanceMethod ({ cls := "VotingHutsModel", name := "isNeedless", desc := "(II)Z" } : Jvm.MethodName)) ∈ lw_all := lw_g (lw_at lw_m11 215 rfl) rfl
theorem q2748 : (Jvm.Cond.code ({ cls := "VotingHutsModel", name := "isNeedless", desc := "(II)Z" } : Jvm.MethodName) prog_12_method_125_code (4 : Nat) (Option.some Jvm.ClassFile.FieldType.boolean)) ∈ lw_all := lw_g (lw_at lw_m11 216 rfl) rfl
theorem q2749 : (Jvm.Cond.methodLink "VotingHutsModel" (394 : Nat) ({ cls := "VotingHutsModel", name := "laysEnd", desc := "(I[I)V" } : Jvm.MethodName)) ∈ lw_all := lw_g (lw_at lw_m11 217 rfl) rfl
theorem q2750 : (Jvm.Cond.privateMethod ({ cls := "VotingHutsModel", name := "laysEnd", desc := "(I[I)V" } : Jvm.MethodName)) ∈ lw_tbl := lw_at lw_m11 218 rfl
theorem q2751 : (Jvm.Cond.instanceMethod ({ cls := "VotingHutsModel", name := "laysEnd", desc := "(I[I)V" } : Jvm.MethodName)) ∈ lw_all := lw_g (lw_at lw_m11 219 rfl) rfl
theorem q2752 : (Jvm.Cond.code ({ cls := "VotingHutsModel", name := "laysEnd", desc := "(I[I)V" } : Jvm.MethodName) prog_12_method_124_code (5 : Nat) (Option.none : Option Jvm.ClassFile.FieldType)) ∈ lw_all := lw_g (lw_at lw_m11 220 rfl) rfl
theorem q2754 : (Jvm.Cond.instanceMethod ({ cls := "VotingHutsModel", name := "needed", desc := "(I)I" } : Jvm.MethodName)) ∈ lw_all := lw_g (lw_at lw_m11 222 rfl) rfl
theorem q2755 : (Jvm.Cond.selects "VotingHutsModel" ({ cls := "VotingHutsModel", name := "needed", desc := "(I)I" } : Jvm.MethodName) ({ cls := "VotingHutsModel", name := "needed", desc := "(I)I" } : Jvm.MethodName)) ∈ lw_all := lw_g (lw_at lw_m11 223 rfl) rfl
theorem q2756 : (Jvm.Cond.code ({ cls := "VotingHutsModel", name := "needed", desc := "(I)I" } : Jvm.MethodName) prog_12_method_127_code (4 : Nat) (Option.some Jvm.ClassFile.FieldType.int)) ∈ lw_all := lw_g (lw_at lw_m11 224 rfl) rfl
theorem q2758 : (Jvm.Cond.instanceMethod ({ cls := "VotingHutsModel", name := "bestAsks", desc := "(I)I" } : Jvm.MethodName)) ∈ lw_all := lw_g (lw_at lw_m11 226 rfl) rfl
theorem q2759 : (Jvm.Cond.selects "VotingHutsModel" ({ cls := "VotingHutsModel", name := "bestAsks", desc := "(I)I" } : Jvm.MethodName) ({ cls := "VotingHutsModel", name := "bestAsks", desc := "(I)I" } : Jvm.MethodName)) ∈ lw_all := lw_g (lw_at lw_m11 227 rfl) rfl
theorem q2760 : (Jvm.Cond.code ({ cls := "VotingHutsModel", name := "bestAsks", desc := "(I)I" } : Jvm.MethodName) prog_12_method_128_code (6 : Nat) (Option.some Jvm.ClassFile.FieldType.int)) ∈ lw_all := lw_g (lw_at lw_m11 228 rfl) rfl
theorem q2762 : (Jvm.Cond.instanceMethod ({ cls := "VotingHutsModel", name := "copiesIn", desc := "(II)I" } : Jvm.MethodName)) ∈ lw_all := lw_g (lw_at lw_m11 230 rfl) rfl
theorem q2763 : (Jvm.Cond.selects "VotingHutsModel" ({ cls := "VotingHutsModel", name := "copiesIn", desc := "(II)I" } : Jvm.MethodName) ({ cls := "VotingHutsModel", name := "copiesIn", desc := "(II)I" } : Jvm.MethodName)) ∈ lw_all := lw_g (lw_at lw_m11 231 rfl) rfl
theorem q2764 : (Jvm.Cond.code ({ cls := "VotingHutsModel", name := "copiesIn", desc := "(II)I" } : Jvm.MethodName) prog_12_method_129_code (5 : Nat) (Option.some Jvm.ClassFile.FieldType.int)) ∈ lw_all := lw_g (lw_at lw_m11 232 rfl) rfl
theorem q2766 : (Jvm.Cond.instanceMethod ({ cls := "VotingHutsModel", name := "bestCut", desc := "(I)I" } : Jvm.MethodName)) ∈ lw_all := lw_g (lw_at lw_m11 234 rfl) rfl
theorem q2767 : (Jvm.Cond.selects "VotingHutsModel" ({ cls := "VotingHutsModel", name := "bestCut", desc := "(I)I" } : Jvm.MethodName) ({ cls := "VotingHutsModel", name := "bestCut", desc := "(I)I" } : Jvm.MethodName)) ∈ lw_all := lw_g (lw_at lw_m11 235 rfl) rfl
theorem q2768 : (Jvm.Cond.code ({ cls := "VotingHutsModel", name := "bestCut", desc := "(I)I" } : Jvm.MethodName) prog_12_method_131_code (6 : Nat) (Option.some Jvm.ClassFile.FieldType.int)) ∈ lw_all := lw_g (lw_at lw_m11 236 rfl) rfl
theorem q2769 : (Jvm.Cond.methodLink "VotingHutsModel" (401 : Nat) ({ cls := "VotingHutsModel", name := "rightCut", desc := "(II)I" } : Jvm.MethodName)) ∈ lw_all := lw_g (lw_at lw_m11 237 rfl) rfl
theorem q2770 : (Jvm.Cond.privateMethod ({ cls := "VotingHutsModel", name := "rightCut", desc := "(II)I" } : Jvm.MethodName)) ∈ lw_tbl := lw_at lw_m11 238 rfl
theorem q2771 : (Jvm.Cond.instanceMethod ({ cls := "VotingHutsModel", name := "rightCut", desc := "(II)I" } : Jvm.MethodName)) ∈ lw_all := lw_g (lw_at lw_m11 239 rfl) rfl
theorem q2772 : (Jvm.Cond.code ({ cls := "VotingHutsModel", name := "rightCut", desc := "(II)I" } : Jvm.MethodName) prog_12_method_130_code (3 : Nat) (Option.some Jvm.ClassFile.FieldType.int)) ∈ lw_all := lw_g (lw_at lw_m12 0 rfl) rfl
theorem q2774 : (Jvm.Cond.instanceMethod ({ cls := "VotingHutsModel", name := "bestStart", desc := "(III)I" } : Jvm.MethodName)) ∈ lw_all := lw_g (lw_at lw_m12 2 rfl) rfl
theorem q2775 : (Jvm.Cond.selects "VotingHutsModel" ({ cls := "VotingHutsModel", name := "bestStart", desc := "(III)I" } : Jvm.MethodName) ({ cls := "VotingHutsModel", name := "bestStart", desc := "(III)I" } : Jvm.MethodName)) ∈ lw_all := lw_g (lw_at lw_m12 3 rfl) rfl
theorem q2776 : (Jvm.Cond.code ({ cls := "VotingHutsModel", name := "bestStart", desc := "(III)I" } : Jvm.MethodName) prog_12_method_133_code (8 : Nat) (Option.some Jvm.ClassFile.FieldType.int)) ∈ lw_all := lw_g (lw_at lw_m12 4 rfl) rfl
theorem q2777 : (Jvm.Cond.methodLink "VotingHutsModel" (404 : Nat) ({ cls := "VotingHutsModel", name := "rightBehind", desc := "(III)I" } : Jvm.MethodName)) ∈ lw_all := lw_g (lw_at lw_m12 5 rfl) rfl
theorem q2778 : (Jvm.Cond.privateMethod ({ cls := "VotingHutsModel", name := "rightBehind", desc := "(III)I" } : Jvm.MethodName)) ∈ lw_tbl := lw_at lw_m12 6 rfl
theorem q2779 : (Jvm.Cond.instanceMethod ({ cls := "VotingHutsModel", name := "rightBehind", desc := "(III)I" } : Jvm.MethodName)) ∈ lw_all := lw_g (lw_at lw_m12 7 rfl) rfl
theorem q2780 : (Jvm.Cond.code ({ cls := "VotingHutsModel", name := "rightBehind", desc := "(III)I" } : Jvm.MethodName) prog_12_method_132_code (6 : Nat) (Option.some Jvm.ClassFile.FieldType.int)) ∈ lw_all := lw_g (lw_at lw_m12 8 rfl) rfl
theorem q2782 : (Jvm.Cond.instanceMethod ({ cls := "VotingHutsModel", name := "leastStorm", desc := "(II)I" } : Jvm.MethodName)) ∈ lw_all := lw_g (lw_at lw_m12 10 rfl) rfl
theorem q2783 : (Jvm.Cond.selects "VotingHutsModel" ({ cls := "VotingHutsModel", name := "leastStorm", desc := "(II)I" } : Jvm.MethodName) ({ cls := "VotingHutsModel", name := "leastStorm", desc := "(II)I" } : Jvm.MethodName)) ∈ lw_all := lw_g (lw_at lw_m12 11 rfl) rfl
theorem q2784 : (Jvm.Cond.code ({ cls := "VotingHutsModel", name := "leastStorm", desc := "(II)I" } : Jvm.MethodName) prog_12_method_134_code (6 : Nat) (Option.some Jvm.ClassFile.FieldType.int)) ∈ lw_all := lw_g (lw_at lw_m12 12 rfl) rfl
theorem q2786 : (Jvm.Cond.instanceMethod ({ cls := "VotingHutsModel", name := "share", desc := "()F" } : Jvm.MethodName)) ∈ lw_all := lw_g (lw_at lw_m12 14 rfl) rfl
theorem q2787 : (Jvm.Cond.selects "VotingHutsModel" ({ cls := "VotingHutsModel", name := "share", desc := "()F" } : Jvm.MethodName) ({ cls := "VotingHutsModel", name := "share", desc := "()F" } : Jvm.MethodName)) ∈ lw_all := lw_g (lw_at lw_m12 15 rfl) rfl
theorem q2788 : (Jvm.Cond.code ({ cls := "VotingHutsModel", name := "share", desc := "()F" } : Jvm.MethodName) prog_12_method_135_code (1 : Nat) (Option.some Jvm.ClassFile.FieldType.float)) ∈ lw_all := lw_g (lw_at lw_m12 16 rfl) rfl
theorem q2790 : (Jvm.Cond.instanceMethod ({ cls := "VotingHutsModel", name := "meanHours", desc := "()D" } : Jvm.MethodName)) ∈ lw_all := lw_g (lw_at lw_m12 18 rfl) rfl
theorem q2791 : (Jvm.Cond.selects "VotingHutsModel" ({ cls := "VotingHutsModel", name := "meanHours", desc := "()D" } : Jvm.MethodName) ({ cls := "VotingHutsModel", name := "meanHours", desc := "()D" } : Jvm.MethodName)) ∈ lw_all := lw_g (lw_at lw_m12 19 rfl) rfl
theorem q2792 : (Jvm.Cond.code ({ cls := "VotingHutsModel", name := "meanHours", desc := "()D" } : Jvm.MethodName) prog_12_method_137_code (1 : Nat) (Option.some Jvm.ClassFile.FieldType.double)) ∈ lw_all := lw_g (lw_at lw_m12 20 rfl) rfl
theorem q2793 : (Jvm.Cond.methodLink "VotingHutsModel" (407 : Nat) ({ cls := "VotingHutsModel", name := "allHours", desc := "()I" } : Jvm.MethodName)) ∈ lw_all := lw_g (lw_at lw_m12 21 rfl) rfl
theorem q2794 : (Jvm.Cond.privateMethod ({ cls := "VotingHutsModel", name := "allHours", desc := "()I" } : Jvm.MethodName)) ∈ lw_tbl := lw_at lw_m12 22 rfl
theorem q2795 : (Jvm.Cond.instanceMethod ({ cls := "VotingHutsModel", name := "allHours", desc := "()I" } : Jvm.MethodName)) ∈ lw_all := lw_g (lw_at lw_m12 23 rfl) rfl
theorem q2796 : (Jvm.Cond.code ({ cls := "VotingHutsModel", name := "allHours", desc := "()I" } : Jvm.MethodName) prog_12_method_136_code (3 : Nat) (Option.some Jvm.ClassFile.FieldType.int)) ∈ lw_all := lw_g (lw_at lw_m12 24 rfl) rfl
theorem q2798 : (Jvm.Cond.instanceMethod ({ cls := "VotingHutsModel", name := "writeMessage", desc := "(I)I" } : Jvm.MethodName)) ∈ lw_all := lw_g (lw_at lw_m12 26 rfl) rfl
theorem q2799 : (Jvm.Cond.selects "VotingHutsModel" ({ cls := "VotingHutsModel", name := "writeMessage", desc := "(I)I" } : Jvm.MethodName) ({ cls := "VotingHutsModel", name := "writeMessage", desc := "(I)I" } : Jvm.MethodName)) ∈ lw_all := lw_g (lw_at lw_m12 27 rfl) rfl
theorem q2800 : (Jvm.Cond.code ({ cls := "VotingHutsModel", name := "writeMessage", desc := "(I)I" } : Jvm.MethodName) prog_12_method_141_code (4 : Nat) (Option.some Jvm.ClassFile.FieldType.int)) ∈ lw_all := lw_g (lw_at lw_m12 28 rfl) rfl
theorem q2801 : (Jvm.Cond.methodLink "VotingHutsModel" (413 : Nat) ({ cls := "VotingHutsModel", name := "writesByte", desc := "(I)V" } : Jvm.MethodName)) ∈ lw_all := lw_g (lw_at lw_m12 29 rfl) rfl
theorem q2802 : (Jvm.Cond.privateMethod ({ cls := "VotingHutsModel", name := "writesByte", desc := "(I)V" } : Jvm.MethodName)) ∈ lw_tbl := lw_at lw_m12 30 rfl
theorem q2803 : (Jvm.Cond.instanceMethod ({ cls := "VotingHutsModel", name := "writesByte", desc := "(I)V" } : Jvm.MethodName)) ∈ lw_all := lw_g (lw_at lw_m12 31 rfl) rfl
theorem q2804 : (Jvm.Cond.code ({ cls := "VotingHutsModel", name := "writesByte", desc := "(I)V" } : Jvm.MethodName) prog_12_method_138_code (2 : Nat) (Option.none : Option Jvm.ClassFile.FieldType)) ∈ lw_all := lw_g (lw_at lw_m12 32 rfl) rfl
theorem q2805 : (Jvm.Cond.methodLink "VotingHutsModel" (416 : Nat) ({ cls := "VotingHutsModel", name := "writesDigit", desc := "(I)V" } : Jvm.MethodName)) ∈ lw_all := lw_g (lw_at lw_m12 33 rfl) rfl
theorem q2806 : (Jvm.Cond.privateMethod ({ cls := "VotingHutsModel", name := "writesDigit", desc := "(I)V" } : Jvm.MethodName)) ∈ lw_tbl := lw_at lw_m12 34 rfl
theorem q2807 : (Jvm.Cond.instanceMethod ({ cls := "VotingHutsModel", name := "writesDigit", desc := "(I)V" } : Jvm.MethodName)) ∈ lw_all := lw_g (lw_at lw_m12 35 rfl) rfl
theorem q2808 : (Jvm.Cond.code ({ cls := "VotingHutsModel", name := "writesDigit", desc := "(I)V" } : Jvm.MethodName) prog_12_method_140_code (2 : Nat) (Option.none : Option Jvm.ClassFile.FieldType)) ∈ lw_all := lw_g (lw_at lw_m12 36 rfl) rfl
theorem q2810 : (Jvm.Cond.instanceMethod ({ cls := "VotingHutsModel", name := "writeBelieved", desc := "(I)I" } : Jvm.MethodName)) ∈ lw_all := lw_g (lw_at lw_m12 38 rfl) rfl
theorem q2811 : (Jvm.Cond.selects "VotingHutsModel" ({ cls := "VotingHutsModel", name := "writeBelieved", desc := "(I)I" } : Jvm.MethodName) ({ cls := "VotingHutsModel", name := "writeBelieved", desc := "(I)I" } : Jvm.MethodName)) ∈ lw_all := lw_g (lw_at lw_m12 39 rfl) rfl
theorem q2812 : (Jvm.Cond.code ({ cls := "VotingHutsModel", name := "writeBelieved", desc := "(I)I" } : Jvm.MethodName) prog_12_method_142_code (3 : Nat) (Option.some Jvm.ClassFile.FieldType.int)) ∈ lw_all := lw_g (lw_at lw_m12 40 rfl) rfl
theorem q2814 : (Jvm.Cond.instanceMethod ({ cls := "VotingHutsModel", name := "writeWires", desc := "(I)I" } : Jvm.MethodName)) ∈ lw_all := lw_g (lw_at lw_m12 42 rfl) rfl
theorem q2815 : (Jvm.Cond.selects "VotingHutsModel" ({ cls := "VotingHutsModel", name := "writeWires", desc := "(I)I" } : Jvm.MethodName) ({ cls := "VotingHutsModel", name := "writeWires", desc := "(I)I" } : Jvm.MethodName)) ∈ lw_all := lw_g (lw_at lw_m12 43 rfl) rfl
theorem q2816 : (Jvm.Cond.code ({ cls := "VotingHutsModel", name := "writeWires", desc := "(I)I" } : Jvm.MethodName) prog_12_method_143_code (3 : Nat) (Option.some Jvm.ClassFile.FieldType.int)) ∈ lw_all := lw_g (lw_at lw_m12 44 rfl) rfl
theorem q2818 : (Jvm.Cond.instanceMethod ({ cls := "VotingHutsModel", name := "writeLog", desc := "()I" } : Jvm.MethodName)) ∈ lw_all := lw_g (lw_at lw_m12 46 rfl) rfl
theorem q2819 : (Jvm.Cond.selects "VotingHutsModel" ({ cls := "VotingHutsModel", name := "writeLog", desc := "()I" } : Jvm.MethodName) ({ cls := "VotingHutsModel", name := "writeLog", desc := "()I" } : Jvm.MethodName)) ∈ lw_all := lw_g (lw_at lw_m12 47 rfl) rfl
theorem q2820 : (Jvm.Cond.code ({ cls := "VotingHutsModel", name := "writeLog", desc := "()I" } : Jvm.MethodName) prog_12_method_145_code (2 : Nat) (Option.some Jvm.ClassFile.FieldType.int)) ∈ lw_all := lw_g (lw_at lw_m12 48 rfl) rfl
theorem q2821 : (Jvm.Cond.methodLink "VotingHutsModel" (419 : Nat) ({ cls := "VotingHutsModel", name := "writesNumber", desc := "(I)V" } : Jvm.MethodName)) ∈ lw_all := lw_g (lw_at lw_m12 49 rfl) rfl
theorem q2822 : (Jvm.Cond.privateMethod ({ cls := "VotingHutsModel", name := "writesNumber", desc := "(I)V" } : Jvm.MethodName)) ∈ lw_tbl := lw_at lw_m12 50 rfl
theorem q2823 : (Jvm.Cond.instanceMethod ({ cls := "VotingHutsModel", name := "writesNumber", desc := "(I)V" } : Jvm.MethodName)) ∈ lw_all := lw_g (lw_at lw_m12 51 rfl) rfl
theorem q2824 : (Jvm.Cond.code ({ cls := "VotingHutsModel", name := "writesNumber", desc := "(I)V" } : Jvm.MethodName) prog_12_method_139_code (3 : Nat) (Option.none : Option Jvm.ClassFile.FieldType)) ∈ lw_all := lw_g (lw_at lw_m12 52 rfl) rfl
theorem q2825 : (Jvm.Cond.methodLink "VotingHutsModel" (422 : Nat) ({ cls := "VotingHutsModel", name := "signOf", desc := "(I)I" } : Jvm.MethodName)) ∈ lw_all := lw_g (lw_at lw_m12 53 rfl) rfl
theorem q2826 : (Jvm.Cond.static ({ cls := "VotingHutsModel", name := "signOf", desc := "(I)I" } : Jvm.MethodName)) ∈ lw_all := lw_g (lw_at lw_m12 54 rfl) rfl
theorem q2827 : (Jvm.Cond.code ({ cls := "VotingHutsModel", name := "signOf", desc := "(I)I" } : Jvm.MethodName) prog_12_method_144_code (1 : Nat) (Option.some Jvm.ClassFile.FieldType.int)) ∈ lw_all := lw_g (lw_at lw_m12 55 rfl) rfl
theorem q2829 : (Jvm.Cond.instanceMethod ({ cls := "VotingHutsModel", name := "textByte", desc := "(I)I" } : Jvm.MethodName)) ∈ lw_all := lw_g (lw_at lw_m12 57 rfl) rfl
theorem q2830 : (Jvm.Cond.selects "VotingHutsModel" ({ cls := "VotingHutsModel", name := "textByte", desc := "(I)I" } : Jvm.MethodName) ({ cls := "VotingHutsModel", name := "textByte", desc := "(I)I" } : Jvm.MethodName)) ∈ lw_all := lw_g (lw_at lw_m12 58 rfl) rfl
theorem q2831 : (Jvm.Cond.code ({ cls := "VotingHutsModel", name := "textByte", desc := "(I)I" } : Jvm.MethodName) prog_12_method_146_code (2 : Nat) (Option.some Jvm.ClassFile.FieldType.int)) ∈ lw_all := lw_g (lw_at lw_m12 59 rfl) rfl
theorem q2833 : (Jvm.Cond.instanceMethod ({ cls := "VotingHutsModel", name := "send", desc := "(II)I" } : Jvm.MethodName)) ∈ lw_all := lw_g (lw_at lw_m12 61 rfl) rfl
theorem q2834 : (Jvm.Cond.selects "VotingHutsModel" ({ cls := "VotingHutsModel", name := "send", desc := "(II)I" } : Jvm.MethodName) ({ cls := "VotingHutsModel", name := "send", desc := "(II)I" } : Jvm.MethodName)) ∈ lw_all := lw_g (lw_at lw_m12 62 rfl) rfl
theorem q2835 : (Jvm.Cond.code ({ cls := "VotingHutsModel", name := "send", desc := "(II)I" } : Jvm.MethodName) prog_12_method_149_code (7 : Nat) (Option.some Jvm.ClassFile.FieldType.int)) ∈ lw_all := lw_g (lw_at lw_m12 63 rfl) rfl
theorem q2836 : (Jvm.Cond.methodLink "VotingHutsModel" (425 : Nat) ({ cls := "VotingHutsModel", name := "areDigits", desc := "(II)Z" } : Jvm.MethodName)) ∈ lw_all := lw_g (lw_at lw_m12 64 rfl) rfl
theorem q2837 : (Jvm.Cond.static ({ cls := "VotingHutsModel", name := "areDigits", desc := "(II)Z" } : Jvm.MethodName)) ∈ lw_all := lw_g (lw_at lw_m12 65 rfl) rfl
theorem q2838 : (Jvm.Cond.code ({ cls := "VotingHutsModel", name := "areDigits", desc := "(II)Z" } : Jvm.MethodName) prog_12_method_148_code (4 : Nat) (Option.some Jvm.ClassFile.FieldType.boolean)) ∈ lw_all := lw_g (lw_at lw_m12 66 rfl) rfl
theorem q2839 : (Jvm.Cond.methodLink "VotingHutsModel" (428 : Nat) ({ cls := "VotingHutsModel", name := "remembers", desc := "()V" } : Jvm.MethodName)) ∈ lw_all := lw_g (lw_at lw_m12 67 rfl) rfl
theorem q2840 : (Jvm.Cond.privateMethod ({ cls := "VotingHutsModel", name := "remembers", desc := "()V" } : Jvm.MethodName)) ∈ lw_tbl := lw_at lw_m12 68 rfl
theorem q2841 : (Jvm.Cond.instanceMethod ({ cls := "VotingHutsModel", name := "remembers", desc := "()V" } : Jvm.MethodName)) ∈ lw_all := lw_g (lw_at lw_m12 69 rfl) rfl
theorem q2842 : (Jvm.Cond.code ({ cls := "VotingHutsModel", name := "remembers", desc := "()V" } : Jvm.MethodName) prog_12_method_147_code (2 : Nat) (Option.none : Option Jvm.ClassFile.FieldType)) ∈ lw_all := lw_g (lw_at lw_m12 70 rfl) rfl
theorem q2844 : (Jvm.Cond.instanceMethod ({ cls := "VotingHutsModel", name := "sendSame", desc := "(II)I" } : Jvm.MethodName)) ∈ lw_all := lw_g (lw_at lw_m12 72 rfl) rfl
theorem q2845 : (Jvm.Cond.selects "VotingHutsModel" ({ cls := "VotingHutsModel", name := "sendSame", desc := "(II)I" } : Jvm.MethodName) ({ cls := "VotingHutsModel", name := "sendSame", desc := "(II)I" } : Jvm.MethodName)) ∈ lw_all := lw_g (lw_at lw_m12 73 rfl) rfl
theorem q2846 : (Jvm.Cond.code ({ cls := "VotingHutsModel", name := "sendSame", desc := "(II)I" } : Jvm.MethodName) prog_12_method_151_code (3 : Nat) (Option.some Jvm.ClassFile.FieldType.int)) ∈ lw_all := lw_g (lw_at lw_m12 74 rfl) rfl
theorem q2848 : (Jvm.Cond.instanceMethod ({ cls := "VotingHutsModel", name := "resend", desc := "(I)I" } : Jvm.MethodName)) ∈ lw_all := lw_g (lw_at lw_m12 76 rfl) rfl
theorem q2849 : (Jvm.Cond.selects "VotingHutsModel" ({ cls := "VotingHutsModel", name := "resend", desc := "(I)I" } : Jvm.MethodName) ({ cls := "VotingHutsModel", name := "resend", desc := "(I)I" } : Jvm.MethodName)) ∈ lw_all := lw_g (lw_at lw_m12 77 rfl) rfl
theorem q2850 : (Jvm.Cond.code ({ cls := "VotingHutsModel", name := "resend", desc := "(I)I" } : Jvm.MethodName) prog_12_method_152_code (4 : Nat) (Option.some Jvm.ClassFile.FieldType.int)) ∈ lw_all := lw_g (lw_at lw_m12 78 rfl) rfl
theorem q2852 : (Jvm.Cond.instanceMethod ({ cls := "VotingHutsModel", name := "pass", desc := "(I)I" } : Jvm.MethodName)) ∈ lw_all := lw_g (lw_at lw_m12 80 rfl) rfl
theorem q2853 : (Jvm.Cond.selects "VotingHutsModel" ({ cls := "VotingHutsModel", name := "pass", desc := "(I)I" } : Jvm.MethodName) ({ cls := "VotingHutsModel", name := "pass", desc := "(I)I" } : Jvm.MethodName)) ∈ lw_all := lw_g (lw_at lw_m12 81 rfl) rfl
theorem q2854 : (Jvm.Cond.code ({ cls := "VotingHutsModel", name := "pass", desc := "(I)I" } : Jvm.MethodName) prog_12_method_153_code (2 : Nat) (Option.some Jvm.ClassFile.FieldType.int)) ∈ lw_all := lw_g (lw_at lw_m12 82 rfl) rfl
theorem q2856 : (Jvm.Cond.instanceMethod ({ cls := "VotingHutsModel", name := "setStorm", desc := "(III)I" } : Jvm.MethodName)) ∈ lw_all := lw_g (lw_at lw_m12 84 rfl) rfl
theorem q2857 : (Jvm.Cond.selects "VotingHutsModel" ({ cls := "VotingHutsModel", name := "setStorm", desc := "(III)I" } : Jvm.MethodName) ({ cls := "VotingHutsModel", name := "setStorm", desc := "(III)I" } : Jvm.MethodName)) ∈ lw_all := lw_g (lw_at lw_m12 85 rfl) rfl
theorem q2858 : (Jvm.Cond.code ({ cls := "VotingHutsModel", name := "setStorm", desc := "(III)I" } : Jvm.MethodName) prog_12_method_154_code (5 : Nat) (Option.some Jvm.ClassFile.FieldType.int)) ∈ lw_all := lw_g (lw_at lw_m12 86 rfl) rfl
theorem q2860 : (Jvm.Cond.instanceMethod ({ cls := "VotingHutsModel", name := "calm", desc := "()I" } : Jvm.MethodName)) ∈ lw_all := lw_g (lw_at lw_m12 88 rfl) rfl
theorem q2861 : (Jvm.Cond.selects "VotingHutsModel" ({ cls := "VotingHutsModel", name := "calm", desc := "()I" } : Jvm.MethodName) ({ cls := "VotingHutsModel", name := "calm", desc := "()I" } : Jvm.MethodName)) ∈ lw_all := lw_g (lw_at lw_m12 89 rfl) rfl
theorem q2862 : (Jvm.Cond.code ({ cls := "VotingHutsModel", name := "calm", desc := "()I" } : Jvm.MethodName) prog_12_method_156_code (2 : Nat) (Option.some Jvm.ClassFile.FieldType.int)) ∈ lw_all := lw_g (lw_at lw_m12 90 rfl) rfl
theorem q2864 : (Jvm.Cond.instanceMethod ({ cls := "VotingHutsModel", name := "mendAll", desc := "()I" } : Jvm.MethodName)) ∈ lw_all := lw_g (lw_at lw_m12 92 rfl) rfl
theorem q2865 : (Jvm.Cond.selects "VotingHutsModel" ({ cls := "VotingHutsModel", name := "mendAll", desc := "()I" } : Jvm.MethodName) ({ cls := "VotingHutsModel", name := "mendAll", desc := "()I" } : Jvm.MethodName)) ∈ lw_all := lw_g (lw_at lw_m12 93 rfl) rfl
theorem q2866 : (Jvm.Cond.code ({ cls := "VotingHutsModel", name := "mendAll", desc := "()I" } : Jvm.MethodName) prog_12_method_157_code (3 : Nat) (Option.some Jvm.ClassFile.FieldType.int)) ∈ lw_all := lw_g (lw_at lw_m12 94 rfl) rfl
theorem q2868 : (Jvm.Cond.instanceMethod ({ cls := "VotingHutsModel", name := "turnLevel", desc := "(I)I" } : Jvm.MethodName)) ∈ lw_all := lw_g (lw_at lw_m12 96 rfl) rfl
theorem q2869 : (Jvm.Cond.selects "VotingHutsModel" ({ cls := "VotingHutsModel", name := "turnLevel", desc := "(I)I" } : Jvm.MethodName) ({ cls := "VotingHutsModel", name := "turnLevel", desc := "(I)I" } : Jvm.MethodName)) ∈ lw_all := lw_g (lw_at lw_m12 97 rfl) rfl
theorem q2870 : (Jvm.Cond.code ({ cls := "VotingHutsModel", name := "turnLevel", desc := "(I)I" } : Jvm.MethodName) prog_12_method_158_code (5 : Nat) (Option.some Jvm.ClassFile.FieldType.int)) ∈ lw_all := lw_g (lw_at lw_m12 98 rfl) rfl
theorem q2872 : (Jvm.Cond.instanceMethod ({ cls := "VotingHutsModel", name := "turnWire", desc := "(I)I" } : Jvm.MethodName)) ∈ lw_all := lw_g (lw_at lw_m12 100 rfl) rfl
theorem q2873 : (Jvm.Cond.selects "VotingHutsModel" ({ cls := "VotingHutsModel", name := "turnWire", desc := "(I)I" } : Jvm.MethodName) ({ cls := "VotingHutsModel", name := "turnWire", desc := "(I)I" } : Jvm.MethodName)) ∈ lw_all := lw_g (lw_at lw_m12 101 rfl) rfl
theorem q2874 : (Jvm.Cond.code ({ cls := "VotingHutsModel", name := "turnWire", desc := "(I)I" } : Jvm.MethodName) prog_12_method_159_code (2 : Nat) (Option.some Jvm.ClassFile.FieldType.int)) ∈ lw_all := lw_g (lw_at lw_m12 102 rfl) rfl
theorem q2876 : (Jvm.Cond.instanceMethod ({ cls := "VotingHutsModel", name := "setAsks", desc := "(I)I" } : Jvm.MethodName)) ∈ lw_all := lw_g (lw_at lw_m12 104 rfl) rfl
theorem q2877 : (Jvm.Cond.selects "VotingHutsModel" ({ cls := "VotingHutsModel", name := "setAsks", desc := "(I)I" } : Jvm.MethodName) ({ cls := "VotingHutsModel", name := "setAsks", desc := "(I)I" } : Jvm.MethodName)) ∈ lw_all := lw_g (lw_at lw_m12 105 rfl) rfl
theorem q2878 : (Jvm.Cond.code ({ cls := "VotingHutsModel", name := "setAsks", desc := "(I)I" } : Jvm.MethodName) prog_12_method_160_code (3 : Nat) (Option.some Jvm.ClassFile.FieldType.int)) ∈ lw_all := lw_g (lw_at lw_m12 106 rfl) rfl
theorem q2880 : (Jvm.Cond.instanceMethod ({ cls := "VotingHutsModel", name := "drop", desc := "(I)I" } : Jvm.MethodName)) ∈ lw_all := lw_g (lw_at lw_m12 108 rfl) rfl
theorem q2881 : (Jvm.Cond.selects "VotingHutsModel" ({ cls := "VotingHutsModel", name := "drop", desc := "(I)I" } : Jvm.MethodName) ({ cls := "VotingHutsModel", name := "drop", desc := "(I)I" } : Jvm.MethodName)) ∈ lw_all := lw_g (lw_at lw_m12 109 rfl) rfl
theorem q2882 : (Jvm.Cond.code ({ cls := "VotingHutsModel", name := "drop", desc := "(I)I" } : Jvm.MethodName) prog_12_method_162_code (3 : Nat) (Option.some Jvm.ClassFile.FieldType.int)) ∈ lw_all := lw_g (lw_at lw_m12 110 rfl) rfl
theorem q2884 : (Jvm.Cond.instanceMethod ({ cls := "VotingHutsModel", name := "undo", desc := "()I" } : Jvm.MethodName)) ∈ lw_all := lw_g (lw_at lw_m12 112 rfl) rfl
theorem q2885 : (Jvm.Cond.selects "VotingHutsModel" ({ cls := "VotingHutsModel", name := "undo", desc := "()I" } : Jvm.MethodName) ({ cls := "VotingHutsModel", name := "undo", desc := "()I" } : Jvm.MethodName)) ∈ lw_all := lw_g (lw_at lw_m12 113 rfl) rfl
theorem q2886 : (Jvm.Cond.code ({ cls := "VotingHutsModel", name := "undo", desc := "()I" } : Jvm.MethodName) prog_12_method_164_code (1 : Nat) (Option.some Jvm.ClassFile.FieldType.int)) ∈ lw_all := lw_g (lw_at lw_m12 114 rfl) rfl
theorem q2888 : (Jvm.Cond.instanceMethod ({ cls := "VotingHutsModel", name := "undoable", desc := "()I" } : Jvm.MethodName)) ∈ lw_all := lw_g (lw_at lw_m12 116 rfl) rfl
theorem q2889 : (Jvm.Cond.selects "VotingHutsModel" ({ cls := "VotingHutsModel", name := "undoable", desc := "()I" } : Jvm.MethodName) ({ cls := "VotingHutsModel", name := "undoable", desc := "()I" } : Jvm.MethodName)) ∈ lw_all := lw_g (lw_at lw_m12 117 rfl) rfl
theorem q2890 : (Jvm.Cond.code ({ cls := "VotingHutsModel", name := "undoable", desc := "()I" } : Jvm.MethodName) prog_12_method_165_code (1 : Nat) (Option.some Jvm.ClassFile.FieldType.int)) ∈ lw_all := lw_g (lw_at lw_m12 118 rfl) rfl
theorem q2892 : (Jvm.Cond.instanceMethod ({ cls := "VotingHutsModel", name := "save", desc := "(I)I" } : Jvm.MethodName)) ∈ lw_all := lw_g (lw_at lw_m12 120 rfl) rfl
theorem q2893 : (Jvm.Cond.selects "VotingHutsModel" ({ cls := "VotingHutsModel", name := "save", desc := "(I)I" } : Jvm.MethodName) ({ cls := "VotingHutsModel", name := "save", desc := "(I)I" } : Jvm.MethodName)) ∈ lw_all := lw_g (lw_at lw_m12 121 rfl) rfl
theorem q2894 : (Jvm.Cond.code ({ cls := "VotingHutsModel", name := "save", desc := "(I)I" } : Jvm.MethodName) prog_12_method_167_code (2 : Nat) (Option.some Jvm.ClassFile.FieldType.int)) ∈ lw_all := lw_g (lw_at lw_m12 122 rfl) rfl
theorem q2895 : (Jvm.Cond.methodLink "VotingHutsModel" (434 : Nat) ({ cls := "VotingHutsModel", name := "isSlot", desc := "(I)Z" } : Jvm.MethodName)) ∈ lw_all := lw_g (lw_at lw_m12 123 rfl) rfl
theorem q2896 : (Jvm.Cond.static ({ cls := "VotingHutsModel", name := "isSlot", desc := "(I)Z" } : Jvm.MethodName)) ∈ lw_all := lw_g (lw_at lw_m12 124 rfl) rfl
theorem q2897 : (Jvm.Cond.code ({ cls := "VotingHutsModel", name := "isSlot", desc := "(I)Z" } : Jvm.MethodName) prog_12_method_166_code (1 : Nat) (Option.some Jvm.ClassFile.FieldType.boolean)) ∈ lw_all := lw_g (lw_at lw_m12 125 rfl) rfl
theorem q2899 : (Jvm.Cond.instanceMethod ({ cls := "VotingHutsModel", name := "restore", desc := "(I)I" } : Jvm.MethodName)) ∈ lw_all := lw_g (lw_at lw_m12 127 rfl) rfl
theorem q2900 : (Jvm.Cond.selects "VotingHutsModel" ({ cls := "VotingHutsModel", name := "restore", desc := "(I)I" } : Jvm.MethodName) ({ cls := "VotingHutsModel", name := "restore", desc := "(I)I" } : Jvm.MethodName)) ∈ lw_all := lw_g (lw_at lw_m12 128 rfl) rfl
theorem q2901 : (Jvm.Cond.code ({ cls := "VotingHutsModel", name := "restore", desc := "(I)I" } : Jvm.MethodName) prog_12_method_168_code (3 : Nat) (Option.some Jvm.ClassFile.FieldType.int)) ∈ lw_all := lw_g (lw_at lw_m12 129 rfl) rfl
theorem q2924 : (Jvm.Cond.castable "VotingHutsModel" "java/lang/Object") ∈ lw_tbl := lw_at lw_m12 152 rfl
theorem in_X2 : ∀ w ∈ wsX20, w ∈ lw_all := lw_in wsX20 [2185, 2187, 2189, 2191, 2193, 2195, 2197, 2199, 2201, 2203, 2205, 2207, 2209, 2211, 2213, 2215, 2217, 2219, 2221, 2223, 2225, 2227] (by decide +kernel) (by decide +kernel)
