/-! VotingHutsLaw -/
set_option maxRecDepth 100000
def RX0 : String := "VotingHutsLaw"
abbrev cX0_load : ByteArray := method_3_code
def yX0_load : MethodName := ⟨RX0, "load", "(LVotingHuts;I[J)I"⟩
def dkwX0_load_0 : List UInt8 := [44, 3, 42, 27, 182, 0, 7, 133, 80, 167, 0, 9, 78, 4, 172, 78, 5, 172, 3, 172]
abbrev dktX0_load_0 : List UInt8 := dkwX0_load_0 ++ []
theorem dksX0_load_0 : cX0_load.data.toList.drop 0 = dktX0_load_0 := by decide +kernel
theorem dX0_load_0 : decode cX0_load 0 = .ok (.aload_n 2, 1) := dk_44 (dk_at dksX0_load_0 0 rfl rfl)
theorem dX0_load_1 : decode cX0_load 1 = .ok (.iconst 0, 1) := dk_3 (dk_at dksX0_load_0 1 rfl rfl)
theorem dX0_load_2 : decode cX0_load 2 = .ok (.aload_n 0, 1) := dk_42 (dk_at dksX0_load_0 2 rfl rfl)
theorem dX0_load_3 : decode cX0_load 3 = .ok (.iload_n 1, 1) := dk_27 (dk_at dksX0_load_0 3 rfl rfl)
theorem dX0_load_4 : decode cX0_load 4 = .ok (.invokevirtual 7, 3) := dk_182 0 7 (dk_at dksX0_load_0 4 rfl rfl)
theorem dX0_load_7 : decode cX0_load 7 = .ok (.i2l, 1) := dk_133 (dk_at dksX0_load_0 7 rfl rfl)
theorem dX0_load_8 : decode cX0_load 8 = .ok (.lastore, 1) := dk_80 (dk_at dksX0_load_0 8 rfl rfl)
theorem dX0_load_9 : decode cX0_load 9 = .ok (.goto 9, 3) := dk_167 0 9 (dk_at dksX0_load_0 9 rfl rfl)
theorem dX0_load_12 : decode cX0_load 12 = .ok (.astore_n 3, 1) := dk_78 (dk_at dksX0_load_0 12 rfl rfl)
theorem dX0_load_13 : decode cX0_load 13 = .ok (.iconst 1, 1) := dk_4 (dk_at dksX0_load_0 13 rfl rfl)
theorem dX0_load_14 : decode cX0_load 14 = .ok (.ireturn, 1) := dk_172 (dk_at dksX0_load_0 14 rfl rfl)
theorem dX0_load_15 : decode cX0_load 15 = .ok (.astore_n 3, 1) := dk_78 (dk_at dksX0_load_0 15 rfl rfl)
theorem dX0_load_16 : decode cX0_load 16 = .ok (.iconst 2, 1) := dk_5 (dk_at dksX0_load_0 16 rfl rfl)
theorem dX0_load_17 : decode cX0_load 17 = .ok (.ireturn, 1) := dk_172 (dk_at dksX0_load_0 17 rfl rfl)
theorem dX0_load_18 : decode cX0_load 18 = .ok (.iconst 0, 1) := dk_3 (dk_at dksX0_load_0 18 rfl rfl)
theorem dX0_load_19 : decode cX0_load 19 = .ok (.ireturn, 1) := dk_172 (dk_at dksX0_load_0 19 rfl rfl)
abbrev cX0_count : ByteArray := method_4_code
def yX0_count : MethodName := ⟨RX0, "count", "(LVotingHuts;I[J)I"⟩
def dkwX0_count_0 : List UInt8 := [44, 3, 42, 27, 182, 0, 17, 133, 80, 167, 0, 9, 78, 4, 172, 78, 5, 172, 3, 172]
abbrev dktX0_count_0 : List UInt8 := dkwX0_count_0 ++ []
theorem dksX0_count_0 : cX0_count.data.toList.drop 0 = dktX0_count_0 := by decide +kernel
theorem dX0_count_0 : decode cX0_count 0 = .ok (.aload_n 2, 1) := dk_44 (dk_at dksX0_count_0 0 rfl rfl)
theorem dX0_count_1 : decode cX0_count 1 = .ok (.iconst 0, 1) := dk_3 (dk_at dksX0_count_0 1 rfl rfl)
theorem dX0_count_2 : decode cX0_count 2 = .ok (.aload_n 0, 1) := dk_42 (dk_at dksX0_count_0 2 rfl rfl)
theorem dX0_count_3 : decode cX0_count 3 = .ok (.iload_n 1, 1) := dk_27 (dk_at dksX0_count_0 3 rfl rfl)
theorem dX0_count_4 : decode cX0_count 4 = .ok (.invokevirtual 17, 3) := dk_182 0 17 (dk_at dksX0_count_0 4 rfl rfl)
theorem dX0_count_7 : decode cX0_count 7 = .ok (.i2l, 1) := dk_133 (dk_at dksX0_count_0 7 rfl rfl)
theorem dX0_count_8 : decode cX0_count 8 = .ok (.lastore, 1) := dk_80 (dk_at dksX0_count_0 8 rfl rfl)
theorem dX0_count_9 : decode cX0_count 9 = .ok (.goto 9, 3) := dk_167 0 9 (dk_at dksX0_count_0 9 rfl rfl)
theorem dX0_count_12 : decode cX0_count 12 = .ok (.astore_n 3, 1) := dk_78 (dk_at dksX0_count_0 12 rfl rfl)
theorem dX0_count_13 : decode cX0_count 13 = .ok (.iconst 1, 1) := dk_4 (dk_at dksX0_count_0 13 rfl rfl)
theorem dX0_count_14 : decode cX0_count 14 = .ok (.ireturn, 1) := dk_172 (dk_at dksX0_count_0 14 rfl rfl)
theorem dX0_count_15 : decode cX0_count 15 = .ok (.astore_n 3, 1) := dk_78 (dk_at dksX0_count_0 15 rfl rfl)
theorem dX0_count_16 : decode cX0_count 16 = .ok (.iconst 2, 1) := dk_5 (dk_at dksX0_count_0 16 rfl rfl)
theorem dX0_count_17 : decode cX0_count 17 = .ok (.ireturn, 1) := dk_172 (dk_at dksX0_count_0 17 rfl rfl)
theorem dX0_count_18 : decode cX0_count 18 = .ok (.iconst 0, 1) := dk_3 (dk_at dksX0_count_0 18 rfl rfl)
theorem dX0_count_19 : decode cX0_count 19 = .ok (.ireturn, 1) := dk_172 (dk_at dksX0_count_0 19 rfl rfl)
abbrev cX0_wire : ByteArray := method_5_code
def yX0_wire : MethodName := ⟨RX0, "wire", "(LVotingHuts;IIII[J)I"⟩
def dkwX0_wire_1 : List UInt8 := [172, 58, 6, 6, 172, 3, 172]
abbrev dktX0_wire_1 : List UInt8 := dkwX0_wire_1 ++ []
def dkwX0_wire_0 : List UInt8 := [25, 5, 3, 42, 27, 28, 29, 21, 4, 182, 0, 22, 133, 80, 167, 0, 15, 58, 6, 4, 172, 58, 6, 5]
abbrev dktX0_wire_0 : List UInt8 := dkwX0_wire_0 ++ dktX0_wire_1
theorem dksX0_wire_0 : cX0_wire.data.toList.drop 0 = dktX0_wire_0 := by decide +kernel
theorem dksX0_wire_1 : cX0_wire.data.toList.drop 24 = dktX0_wire_1 := dk_seg dksX0_wire_0 24 rfl rfl
theorem dX0_wire_0 : decode cX0_wire 0 = .ok (.aload 5, 2) := dk_25 5 (dk_at dksX0_wire_0 0 rfl rfl)
theorem dX0_wire_2 : decode cX0_wire 2 = .ok (.iconst 0, 1) := dk_3 (dk_at dksX0_wire_0 2 rfl rfl)
theorem dX0_wire_3 : decode cX0_wire 3 = .ok (.aload_n 0, 1) := dk_42 (dk_at dksX0_wire_0 3 rfl rfl)
theorem dX0_wire_4 : decode cX0_wire 4 = .ok (.iload_n 1, 1) := dk_27 (dk_at dksX0_wire_0 4 rfl rfl)
theorem dX0_wire_5 : decode cX0_wire 5 = .ok (.iload_n 2, 1) := dk_28 (dk_at dksX0_wire_0 5 rfl rfl)
theorem dX0_wire_6 : decode cX0_wire 6 = .ok (.iload_n 3, 1) := dk_29 (dk_at dksX0_wire_0 6 rfl rfl)
theorem dX0_wire_7 : decode cX0_wire 7 = .ok (.iload 4, 2) := dk_21 4 (dk_at dksX0_wire_0 7 rfl rfl)
theorem dX0_wire_9 : decode cX0_wire 9 = .ok (.invokevirtual 22, 3) := dk_182 0 22 (dk_at dksX0_wire_0 9 rfl rfl)
theorem dX0_wire_12 : decode cX0_wire 12 = .ok (.i2l, 1) := dk_133 (dk_at dksX0_wire_0 12 rfl rfl)
theorem dX0_wire_13 : decode cX0_wire 13 = .ok (.lastore, 1) := dk_80 (dk_at dksX0_wire_0 13 rfl rfl)
theorem dX0_wire_14 : decode cX0_wire 14 = .ok (.goto 15, 3) := dk_167 0 15 (dk_at dksX0_wire_0 14 rfl rfl)
theorem dX0_wire_17 : decode cX0_wire 17 = .ok (.astore 6, 2) := dk_58 6 (dk_at dksX0_wire_0 17 rfl rfl)
theorem dX0_wire_19 : decode cX0_wire 19 = .ok (.iconst 1, 1) := dk_4 (dk_at dksX0_wire_0 19 rfl rfl)
theorem dX0_wire_20 : decode cX0_wire 20 = .ok (.ireturn, 1) := dk_172 (dk_at dksX0_wire_0 20 rfl rfl)
theorem dX0_wire_21 : decode cX0_wire 21 = .ok (.astore 6, 2) := dk_58 6 (dk_at dksX0_wire_0 21 rfl rfl)
theorem dX0_wire_23 : decode cX0_wire 23 = .ok (.iconst 2, 1) := dk_5 (dk_at dksX0_wire_0 23 rfl rfl)
theorem dX0_wire_24 : decode cX0_wire 24 = .ok (.ireturn, 1) := dk_172 (dk_at dksX0_wire_1 0 rfl rfl)
theorem dX0_wire_25 : decode cX0_wire 25 = .ok (.astore 6, 2) := dk_58 6 (dk_at dksX0_wire_1 1 rfl rfl)
theorem dX0_wire_27 : decode cX0_wire 27 = .ok (.iconst 3, 1) := dk_6 (dk_at dksX0_wire_1 3 rfl rfl)
theorem dX0_wire_28 : decode cX0_wire 28 = .ok (.ireturn, 1) := dk_172 (dk_at dksX0_wire_1 4 rfl rfl)
theorem dX0_wire_29 : decode cX0_wire 29 = .ok (.iconst 0, 1) := dk_3 (dk_at dksX0_wire_1 5 rfl rfl)
theorem dX0_wire_30 : decode cX0_wire 30 = .ok (.ireturn, 1) := dk_172 (dk_at dksX0_wire_1 6 rfl rfl)
abbrev cX0_garbles : ByteArray := method_6_code
def yX0_garbles : MethodName := ⟨RX0, "garbles", "(LVotingHuts;IIIII[J)I"⟩
def dkwX0_garbles_1 : List UInt8 := [167, 0, 15, 58, 7, 4, 172, 58, 7, 5, 172, 58, 7, 6, 172, 3, 172]
abbrev dktX0_garbles_1 : List UInt8 := dkwX0_garbles_1 ++ []
def dkwX0_garbles_0 : List UInt8 := [25, 6, 3, 42, 27, 28, 29, 21, 4, 21, 5, 182, 0, 26, 153, 0, 7, 10, 167, 0, 4, 9, 80]
abbrev dktX0_garbles_0 : List UInt8 := dkwX0_garbles_0 ++ dktX0_garbles_1
theorem dksX0_garbles_0 : cX0_garbles.data.toList.drop 0 = dktX0_garbles_0 := by decide +kernel
theorem dksX0_garbles_1 : cX0_garbles.data.toList.drop 23 = dktX0_garbles_1 := dk_seg dksX0_garbles_0 23 rfl rfl
theorem dX0_garbles_0 : decode cX0_garbles 0 = .ok (.aload 6, 2) := dk_25 6 (dk_at dksX0_garbles_0 0 rfl rfl)
theorem dX0_garbles_2 : decode cX0_garbles 2 = .ok (.iconst 0, 1) := dk_3 (dk_at dksX0_garbles_0 2 rfl rfl)
theorem dX0_garbles_3 : decode cX0_garbles 3 = .ok (.aload_n 0, 1) := dk_42 (dk_at dksX0_garbles_0 3 rfl rfl)
theorem dX0_garbles_4 : decode cX0_garbles 4 = .ok (.iload_n 1, 1) := dk_27 (dk_at dksX0_garbles_0 4 rfl rfl)
theorem dX0_garbles_5 : decode cX0_garbles 5 = .ok (.iload_n 2, 1) := dk_28 (dk_at dksX0_garbles_0 5 rfl rfl)
theorem dX0_garbles_6 : decode cX0_garbles 6 = .ok (.iload_n 3, 1) := dk_29 (dk_at dksX0_garbles_0 6 rfl rfl)
theorem dX0_garbles_7 : decode cX0_garbles 7 = .ok (.iload 4, 2) := dk_21 4 (dk_at dksX0_garbles_0 7 rfl rfl)
theorem dX0_garbles_9 : decode cX0_garbles 9 = .ok (.iload 5, 2) := dk_21 5 (dk_at dksX0_garbles_0 9 rfl rfl)
theorem dX0_garbles_11 : decode cX0_garbles 11 = .ok (.invokevirtual 26, 3) := dk_182 0 26 (dk_at dksX0_garbles_0 11 rfl rfl)
theorem dX0_garbles_14 : decode cX0_garbles 14 = .ok (.ifCond .eq 7, 3) := dk_153 0 7 (dk_at dksX0_garbles_0 14 rfl rfl)
theorem dX0_garbles_17 : decode cX0_garbles 17 = .ok (.lconst 1, 1) := dk_10 (dk_at dksX0_garbles_0 17 rfl rfl)
theorem dX0_garbles_18 : decode cX0_garbles 18 = .ok (.goto 4, 3) := dk_167 0 4 (dk_at dksX0_garbles_0 18 rfl rfl)
theorem dX0_garbles_21 : decode cX0_garbles 21 = .ok (.lconst 0, 1) := dk_9 (dk_at dksX0_garbles_0 21 rfl rfl)
theorem dX0_garbles_22 : decode cX0_garbles 22 = .ok (.lastore, 1) := dk_80 (dk_at dksX0_garbles_0 22 rfl rfl)
theorem dX0_garbles_23 : decode cX0_garbles 23 = .ok (.goto 15, 3) := dk_167 0 15 (dk_at dksX0_garbles_1 0 rfl rfl)
theorem dX0_garbles_26 : decode cX0_garbles 26 = .ok (.astore 7, 2) := dk_58 7 (dk_at dksX0_garbles_1 3 rfl rfl)
theorem dX0_garbles_28 : decode cX0_garbles 28 = .ok (.iconst 1, 1) := dk_4 (dk_at dksX0_garbles_1 5 rfl rfl)
theorem dX0_garbles_29 : decode cX0_garbles 29 = .ok (.ireturn, 1) := dk_172 (dk_at dksX0_garbles_1 6 rfl rfl)
theorem dX0_garbles_30 : decode cX0_garbles 30 = .ok (.astore 7, 2) := dk_58 7 (dk_at dksX0_garbles_1 7 rfl rfl)
theorem dX0_garbles_32 : decode cX0_garbles 32 = .ok (.iconst 2, 1) := dk_5 (dk_at dksX0_garbles_1 9 rfl rfl)
theorem dX0_garbles_33 : decode cX0_garbles 33 = .ok (.ireturn, 1) := dk_172 (dk_at dksX0_garbles_1 10 rfl rfl)
theorem dX0_garbles_34 : decode cX0_garbles 34 = .ok (.astore 7, 2) := dk_58 7 (dk_at dksX0_garbles_1 11 rfl rfl)
theorem dX0_garbles_36 : decode cX0_garbles 36 = .ok (.iconst 3, 1) := dk_6 (dk_at dksX0_garbles_1 13 rfl rfl)
theorem dX0_garbles_37 : decode cX0_garbles 37 = .ok (.ireturn, 1) := dk_172 (dk_at dksX0_garbles_1 14 rfl rfl)
theorem dX0_garbles_38 : decode cX0_garbles 38 = .ok (.iconst 0, 1) := dk_3 (dk_at dksX0_garbles_1 15 rfl rfl)
theorem dX0_garbles_39 : decode cX0_garbles 39 = .ok (.ireturn, 1) := dk_172 (dk_at dksX0_garbles_1 16 rfl rfl)
abbrev cX0_comes : ByteArray := method_7_code
def yX0_comes : MethodName := ⟨RX0, "comes", "(LVotingHuts;IIIII[J)I"⟩
def dkwX0_comes_1 : List UInt8 := [58, 7, 5, 172, 58, 7, 6, 172, 3, 172]
abbrev dktX0_comes_1 : List UInt8 := dkwX0_comes_1 ++ []
def dkwX0_comes_0 : List UInt8 := [25, 6, 3, 42, 27, 28, 29, 21, 4, 21, 5, 182, 0, 30, 133, 80, 167, 0, 15, 58, 7, 4, 172]
abbrev dktX0_comes_0 : List UInt8 := dkwX0_comes_0 ++ dktX0_comes_1
theorem dksX0_comes_0 : cX0_comes.data.toList.drop 0 = dktX0_comes_0 := by decide +kernel
theorem dksX0_comes_1 : cX0_comes.data.toList.drop 23 = dktX0_comes_1 := dk_seg dksX0_comes_0 23 rfl rfl
theorem dX0_comes_0 : decode cX0_comes 0 = .ok (.aload 6, 2) := dk_25 6 (dk_at dksX0_comes_0 0 rfl rfl)
theorem dX0_comes_2 : decode cX0_comes 2 = .ok (.iconst 0, 1) := dk_3 (dk_at dksX0_comes_0 2 rfl rfl)
theorem dX0_comes_3 : decode cX0_comes 3 = .ok (.aload_n 0, 1) := dk_42 (dk_at dksX0_comes_0 3 rfl rfl)
theorem dX0_comes_4 : decode cX0_comes 4 = .ok (.iload_n 1, 1) := dk_27 (dk_at dksX0_comes_0 4 rfl rfl)
theorem dX0_comes_5 : decode cX0_comes 5 = .ok (.iload_n 2, 1) := dk_28 (dk_at dksX0_comes_0 5 rfl rfl)
theorem dX0_comes_6 : decode cX0_comes 6 = .ok (.iload_n 3, 1) := dk_29 (dk_at dksX0_comes_0 6 rfl rfl)
theorem dX0_comes_7 : decode cX0_comes 7 = .ok (.iload 4, 2) := dk_21 4 (dk_at dksX0_comes_0 7 rfl rfl)
theorem dX0_comes_9 : decode cX0_comes 9 = .ok (.iload 5, 2) := dk_21 5 (dk_at dksX0_comes_0 9 rfl rfl)
theorem dX0_comes_11 : decode cX0_comes 11 = .ok (.invokevirtual 30, 3) := dk_182 0 30 (dk_at dksX0_comes_0 11 rfl rfl)
theorem dX0_comes_14 : decode cX0_comes 14 = .ok (.i2l, 1) := dk_133 (dk_at dksX0_comes_0 14 rfl rfl)
theorem dX0_comes_15 : decode cX0_comes 15 = .ok (.lastore, 1) := dk_80 (dk_at dksX0_comes_0 15 rfl rfl)
theorem dX0_comes_16 : decode cX0_comes 16 = .ok (.goto 15, 3) := dk_167 0 15 (dk_at dksX0_comes_0 16 rfl rfl)
theorem dX0_comes_19 : decode cX0_comes 19 = .ok (.astore 7, 2) := dk_58 7 (dk_at dksX0_comes_0 19 rfl rfl)
theorem dX0_comes_21 : decode cX0_comes 21 = .ok (.iconst 1, 1) := dk_4 (dk_at dksX0_comes_0 21 rfl rfl)
theorem dX0_comes_22 : decode cX0_comes 22 = .ok (.ireturn, 1) := dk_172 (dk_at dksX0_comes_0 22 rfl rfl)
theorem dX0_comes_23 : decode cX0_comes 23 = .ok (.astore 7, 2) := dk_58 7 (dk_at dksX0_comes_1 0 rfl rfl)
theorem dX0_comes_25 : decode cX0_comes 25 = .ok (.iconst 2, 1) := dk_5 (dk_at dksX0_comes_1 2 rfl rfl)
theorem dX0_comes_26 : decode cX0_comes 26 = .ok (.ireturn, 1) := dk_172 (dk_at dksX0_comes_1 3 rfl rfl)
theorem dX0_comes_27 : decode cX0_comes 27 = .ok (.astore 7, 2) := dk_58 7 (dk_at dksX0_comes_1 4 rfl rfl)
theorem dX0_comes_29 : decode cX0_comes 29 = .ok (.iconst 3, 1) := dk_6 (dk_at dksX0_comes_1 6 rfl rfl)
theorem dX0_comes_30 : decode cX0_comes 30 = .ok (.ireturn, 1) := dk_172 (dk_at dksX0_comes_1 7 rfl rfl)
theorem dX0_comes_31 : decode cX0_comes 31 = .ok (.iconst 0, 1) := dk_3 (dk_at dksX0_comes_1 8 rfl rfl)
theorem dX0_comes_32 : decode cX0_comes 32 = .ok (.ireturn, 1) := dk_172 (dk_at dksX0_comes_1 9 rfl rfl)
abbrev cX0_worstWire : ByteArray := method_8_code
def yX0_worstWire : MethodName := ⟨RX0, "worstWire", "(LVotingHuts;[J)I"⟩
def dkwX0_worstWire_0 : List UInt8 := [43, 3, 42, 182, 0, 34, 133, 80, 167, 0, 6, 77, 4, 172, 3, 172]
abbrev dktX0_worstWire_0 : List UInt8 := dkwX0_worstWire_0 ++ []
theorem dksX0_worstWire_0 : cX0_worstWire.data.toList.drop 0 = dktX0_worstWire_0 := by decide +kernel
theorem dX0_worstWire_0 : decode cX0_worstWire 0 = .ok (.aload_n 1, 1) := dk_43 (dk_at dksX0_worstWire_0 0 rfl rfl)
theorem dX0_worstWire_1 : decode cX0_worstWire 1 = .ok (.iconst 0, 1) := dk_3 (dk_at dksX0_worstWire_0 1 rfl rfl)
theorem dX0_worstWire_2 : decode cX0_worstWire 2 = .ok (.aload_n 0, 1) := dk_42 (dk_at dksX0_worstWire_0 2 rfl rfl)
theorem dX0_worstWire_3 : decode cX0_worstWire 3 = .ok (.invokevirtual 34, 3) := dk_182 0 34 (dk_at dksX0_worstWire_0 3 rfl rfl)
theorem dX0_worstWire_6 : decode cX0_worstWire 6 = .ok (.i2l, 1) := dk_133 (dk_at dksX0_worstWire_0 6 rfl rfl)
theorem dX0_worstWire_7 : decode cX0_worstWire 7 = .ok (.lastore, 1) := dk_80 (dk_at dksX0_worstWire_0 7 rfl rfl)
theorem dX0_worstWire_8 : decode cX0_worstWire 8 = .ok (.goto 6, 3) := dk_167 0 6 (dk_at dksX0_worstWire_0 8 rfl rfl)
theorem dX0_worstWire_11 : decode cX0_worstWire 11 = .ok (.astore_n 2, 1) := dk_77 (dk_at dksX0_worstWire_0 11 rfl rfl)
theorem dX0_worstWire_12 : decode cX0_worstWire 12 = .ok (.iconst 1, 1) := dk_4 (dk_at dksX0_worstWire_0 12 rfl rfl)
theorem dX0_worstWire_13 : decode cX0_worstWire 13 = .ok (.ireturn, 1) := dk_172 (dk_at dksX0_worstWire_0 13 rfl rfl)
theorem dX0_worstWire_14 : decode cX0_worstWire 14 = .ok (.iconst 0, 1) := dk_3 (dk_at dksX0_worstWire_0 14 rfl rfl)
theorem dX0_worstWire_15 : decode cX0_worstWire 15 = .ok (.ireturn, 1) := dk_172 (dk_at dksX0_worstWire_0 15 rfl rfl)
abbrev cX0_stormyWires : ByteArray := method_9_code
def yX0_stormyWires : MethodName := ⟨RX0, "stormyWires", "(LVotingHuts;II[J)I"⟩
def dkwX0_stormyWires_0 : List UInt8 := [45, 3, 42, 27, 28, 182, 0, 38, 133, 80, 167, 0, 11, 58, 4, 4, 172, 58, 4, 5, 172, 3, 172]
abbrev dktX0_stormyWires_0 : List UInt8 := dkwX0_stormyWires_0 ++ []
theorem dksX0_stormyWires_0 : cX0_stormyWires.data.toList.drop 0 = dktX0_stormyWires_0 := by decide +kernel
theorem dX0_stormyWires_0 : decode cX0_stormyWires 0 = .ok (.aload_n 3, 1) := dk_45 (dk_at dksX0_stormyWires_0 0 rfl rfl)
theorem dX0_stormyWires_1 : decode cX0_stormyWires 1 = .ok (.iconst 0, 1) := dk_3 (dk_at dksX0_stormyWires_0 1 rfl rfl)
theorem dX0_stormyWires_2 : decode cX0_stormyWires 2 = .ok (.aload_n 0, 1) := dk_42 (dk_at dksX0_stormyWires_0 2 rfl rfl)
theorem dX0_stormyWires_3 : decode cX0_stormyWires 3 = .ok (.iload_n 1, 1) := dk_27 (dk_at dksX0_stormyWires_0 3 rfl rfl)
theorem dX0_stormyWires_4 : decode cX0_stormyWires 4 = .ok (.iload_n 2, 1) := dk_28 (dk_at dksX0_stormyWires_0 4 rfl rfl)
theorem dX0_stormyWires_5 : decode cX0_stormyWires 5 = .ok (.invokevirtual 38, 3) := dk_182 0 38 (dk_at dksX0_stormyWires_0 5 rfl rfl)
theorem dX0_stormyWires_8 : decode cX0_stormyWires 8 = .ok (.i2l, 1) := dk_133 (dk_at dksX0_stormyWires_0 8 rfl rfl)
theorem dX0_stormyWires_9 : decode cX0_stormyWires 9 = .ok (.lastore, 1) := dk_80 (dk_at dksX0_stormyWires_0 9 rfl rfl)
theorem dX0_stormyWires_10 : decode cX0_stormyWires 10 = .ok (.goto 11, 3) := dk_167 0 11 (dk_at dksX0_stormyWires_0 10 rfl rfl)
theorem dX0_stormyWires_13 : decode cX0_stormyWires 13 = .ok (.astore 4, 2) := dk_58 4 (dk_at dksX0_stormyWires_0 13 rfl rfl)
theorem dX0_stormyWires_15 : decode cX0_stormyWires 15 = .ok (.iconst 1, 1) := dk_4 (dk_at dksX0_stormyWires_0 15 rfl rfl)
theorem dX0_stormyWires_16 : decode cX0_stormyWires 16 = .ok (.ireturn, 1) := dk_172 (dk_at dksX0_stormyWires_0 16 rfl rfl)
theorem dX0_stormyWires_17 : decode cX0_stormyWires 17 = .ok (.astore 4, 2) := dk_58 4 (dk_at dksX0_stormyWires_0 17 rfl rfl)
theorem dX0_stormyWires_19 : decode cX0_stormyWires 19 = .ok (.iconst 2, 1) := dk_5 (dk_at dksX0_stormyWires_0 19 rfl rfl)
theorem dX0_stormyWires_20 : decode cX0_stormyWires 20 = .ok (.ireturn, 1) := dk_172 (dk_at dksX0_stormyWires_0 20 rfl rfl)
theorem dX0_stormyWires_21 : decode cX0_stormyWires 21 = .ok (.iconst 0, 1) := dk_3 (dk_at dksX0_stormyWires_0 21 rfl rfl)
theorem dX0_stormyWires_22 : decode cX0_stormyWires 22 = .ok (.ireturn, 1) := dk_172 (dk_at dksX0_stormyWires_0 22 rfl rfl)
abbrev cX0_calmest : ByteArray := method_10_code
def yX0_calmest : MethodName := ⟨RX0, "calmest", "(LVotingHuts;I[J)I"⟩
def dkwX0_calmest_0 : List UInt8 := [44, 3, 42, 27, 182, 0, 42, 133, 80, 167, 0, 9, 78, 4, 172, 78, 5, 172, 3, 172]
abbrev dktX0_calmest_0 : List UInt8 := dkwX0_calmest_0 ++ []
theorem dksX0_calmest_0 : cX0_calmest.data.toList.drop 0 = dktX0_calmest_0 := by decide +kernel
theorem dX0_calmest_0 : decode cX0_calmest 0 = .ok (.aload_n 2, 1) := dk_44 (dk_at dksX0_calmest_0 0 rfl rfl)
theorem dX0_calmest_1 : decode cX0_calmest 1 = .ok (.iconst 0, 1) := dk_3 (dk_at dksX0_calmest_0 1 rfl rfl)
theorem dX0_calmest_2 : decode cX0_calmest 2 = .ok (.aload_n 0, 1) := dk_42 (dk_at dksX0_calmest_0 2 rfl rfl)
theorem dX0_calmest_3 : decode cX0_calmest 3 = .ok (.iload_n 1, 1) := dk_27 (dk_at dksX0_calmest_0 3 rfl rfl)
theorem dX0_calmest_4 : decode cX0_calmest 4 = .ok (.invokevirtual 42, 3) := dk_182 0 42 (dk_at dksX0_calmest_0 4 rfl rfl)
theorem dX0_calmest_7 : decode cX0_calmest 7 = .ok (.i2l, 1) := dk_133 (dk_at dksX0_calmest_0 7 rfl rfl)
theorem dX0_calmest_8 : decode cX0_calmest 8 = .ok (.lastore, 1) := dk_80 (dk_at dksX0_calmest_0 8 rfl rfl)
theorem dX0_calmest_9 : decode cX0_calmest 9 = .ok (.goto 9, 3) := dk_167 0 9 (dk_at dksX0_calmest_0 9 rfl rfl)
theorem dX0_calmest_12 : decode cX0_calmest 12 = .ok (.astore_n 3, 1) := dk_78 (dk_at dksX0_calmest_0 12 rfl rfl)
theorem dX0_calmest_13 : decode cX0_calmest 13 = .ok (.iconst 1, 1) := dk_4 (dk_at dksX0_calmest_0 13 rfl rfl)
theorem dX0_calmest_14 : decode cX0_calmest 14 = .ok (.ireturn, 1) := dk_172 (dk_at dksX0_calmest_0 14 rfl rfl)
theorem dX0_calmest_15 : decode cX0_calmest 15 = .ok (.astore_n 3, 1) := dk_78 (dk_at dksX0_calmest_0 15 rfl rfl)
theorem dX0_calmest_16 : decode cX0_calmest 16 = .ok (.iconst 2, 1) := dk_5 (dk_at dksX0_calmest_0 16 rfl rfl)
theorem dX0_calmest_17 : decode cX0_calmest 17 = .ok (.ireturn, 1) := dk_172 (dk_at dksX0_calmest_0 17 rfl rfl)
theorem dX0_calmest_18 : decode cX0_calmest 18 = .ok (.iconst 0, 1) := dk_3 (dk_at dksX0_calmest_0 18 rfl rfl)
theorem dX0_calmest_19 : decode cX0_calmest 19 = .ok (.ireturn, 1) := dk_172 (dk_at dksX0_calmest_0 19 rfl rfl)
abbrev cX0_stormyHours : ByteArray := method_11_code
def yX0_stormyHours : MethodName := ⟨RX0, "stormyHours", "(LVotingHuts;IIII[J)I"⟩
def dkwX0_stormyHours_1 : List UInt8 := [172, 58, 6, 6, 172, 3, 172]
abbrev dktX0_stormyHours_1 : List UInt8 := dkwX0_stormyHours_1 ++ []
def dkwX0_stormyHours_0 : List UInt8 := [25, 5, 3, 42, 27, 28, 29, 21, 4, 182, 0, 45, 133, 80, 167, 0, 15, 58, 6, 4, 172, 58, 6, 5]
abbrev dktX0_stormyHours_0 : List UInt8 := dkwX0_stormyHours_0 ++ dktX0_stormyHours_1
theorem dksX0_stormyHours_0 : cX0_stormyHours.data.toList.drop 0 = dktX0_stormyHours_0 := by decide +kernel
theorem dksX0_stormyHours_1 : cX0_stormyHours.data.toList.drop 24 = dktX0_stormyHours_1 := dk_seg dksX0_stormyHours_0 24 rfl rfl
theorem dX0_stormyHours_0 : decode cX0_stormyHours 0 = .ok (.aload 5, 2) := dk_25 5 (dk_at dksX0_stormyHours_0 0 rfl rfl)
theorem dX0_stormyHours_2 : decode cX0_stormyHours 2 = .ok (.iconst 0, 1) := dk_3 (dk_at dksX0_stormyHours_0 2 rfl rfl)
theorem dX0_stormyHours_3 : decode cX0_stormyHours 3 = .ok (.aload_n 0, 1) := dk_42 (dk_at dksX0_stormyHours_0 3 rfl rfl)
theorem dX0_stormyHours_4 : decode cX0_stormyHours 4 = .ok (.iload_n 1, 1) := dk_27 (dk_at dksX0_stormyHours_0 4 rfl rfl)
theorem dX0_stormyHours_5 : decode cX0_stormyHours 5 = .ok (.iload_n 2, 1) := dk_28 (dk_at dksX0_stormyHours_0 5 rfl rfl)
theorem dX0_stormyHours_6 : decode cX0_stormyHours 6 = .ok (.iload_n 3, 1) := dk_29 (dk_at dksX0_stormyHours_0 6 rfl rfl)
theorem dX0_stormyHours_7 : decode cX0_stormyHours 7 = .ok (.iload 4, 2) := dk_21 4 (dk_at dksX0_stormyHours_0 7 rfl rfl)
theorem dX0_stormyHours_9 : decode cX0_stormyHours 9 = .ok (.invokevirtual 45, 3) := dk_182 0 45 (dk_at dksX0_stormyHours_0 9 rfl rfl)
theorem dX0_stormyHours_12 : decode cX0_stormyHours 12 = .ok (.i2l, 1) := dk_133 (dk_at dksX0_stormyHours_0 12 rfl rfl)
theorem dX0_stormyHours_13 : decode cX0_stormyHours 13 = .ok (.lastore, 1) := dk_80 (dk_at dksX0_stormyHours_0 13 rfl rfl)
theorem dX0_stormyHours_14 : decode cX0_stormyHours 14 = .ok (.goto 15, 3) := dk_167 0 15 (dk_at dksX0_stormyHours_0 14 rfl rfl)
theorem dX0_stormyHours_17 : decode cX0_stormyHours 17 = .ok (.astore 6, 2) := dk_58 6 (dk_at dksX0_stormyHours_0 17 rfl rfl)
theorem dX0_stormyHours_19 : decode cX0_stormyHours 19 = .ok (.iconst 1, 1) := dk_4 (dk_at dksX0_stormyHours_0 19 rfl rfl)
theorem dX0_stormyHours_20 : decode cX0_stormyHours 20 = .ok (.ireturn, 1) := dk_172 (dk_at dksX0_stormyHours_0 20 rfl rfl)
theorem dX0_stormyHours_21 : decode cX0_stormyHours 21 = .ok (.astore 6, 2) := dk_58 6 (dk_at dksX0_stormyHours_0 21 rfl rfl)
theorem dX0_stormyHours_23 : decode cX0_stormyHours 23 = .ok (.iconst 2, 1) := dk_5 (dk_at dksX0_stormyHours_0 23 rfl rfl)
theorem dX0_stormyHours_24 : decode cX0_stormyHours 24 = .ok (.ireturn, 1) := dk_172 (dk_at dksX0_stormyHours_1 0 rfl rfl)
theorem dX0_stormyHours_25 : decode cX0_stormyHours 25 = .ok (.astore 6, 2) := dk_58 6 (dk_at dksX0_stormyHours_1 1 rfl rfl)
theorem dX0_stormyHours_27 : decode cX0_stormyHours 27 = .ok (.iconst 3, 1) := dk_6 (dk_at dksX0_stormyHours_1 3 rfl rfl)
theorem dX0_stormyHours_28 : decode cX0_stormyHours 28 = .ok (.ireturn, 1) := dk_172 (dk_at dksX0_stormyHours_1 4 rfl rfl)
theorem dX0_stormyHours_29 : decode cX0_stormyHours 29 = .ok (.iconst 0, 1) := dk_3 (dk_at dksX0_stormyHours_1 5 rfl rfl)
theorem dX0_stormyHours_30 : decode cX0_stormyHours 30 = .ok (.ireturn, 1) := dk_172 (dk_at dksX0_stormyHours_1 6 rfl rfl)
abbrev cX0_message : ByteArray := method_12_code
def yX0_message : MethodName := ⟨RX0, "message", "(LVotingHuts;II[J)I"⟩
def dkwX0_message_1 : List UInt8 := [172, 3, 172]
abbrev dktX0_message_1 : List UInt8 := dkwX0_message_1 ++ []
def dkwX0_message_0 : List UInt8 := [45, 3, 42, 27, 28, 182, 0, 48, 133, 80, 167, 0, 15, 58, 4, 4, 172, 58, 4, 5, 172, 58, 4, 6]
abbrev dktX0_message_0 : List UInt8 := dkwX0_message_0 ++ dktX0_message_1
theorem dksX0_message_0 : cX0_message.data.toList.drop 0 = dktX0_message_0 := by decide +kernel
theorem dksX0_message_1 : cX0_message.data.toList.drop 24 = dktX0_message_1 := dk_seg dksX0_message_0 24 rfl rfl
theorem dX0_message_0 : decode cX0_message 0 = .ok (.aload_n 3, 1) := dk_45 (dk_at dksX0_message_0 0 rfl rfl)
theorem dX0_message_1 : decode cX0_message 1 = .ok (.iconst 0, 1) := dk_3 (dk_at dksX0_message_0 1 rfl rfl)
theorem dX0_message_2 : decode cX0_message 2 = .ok (.aload_n 0, 1) := dk_42 (dk_at dksX0_message_0 2 rfl rfl)
theorem dX0_message_3 : decode cX0_message 3 = .ok (.iload_n 1, 1) := dk_27 (dk_at dksX0_message_0 3 rfl rfl)
theorem dX0_message_4 : decode cX0_message 4 = .ok (.iload_n 2, 1) := dk_28 (dk_at dksX0_message_0 4 rfl rfl)
theorem dX0_message_5 : decode cX0_message 5 = .ok (.invokevirtual 48, 3) := dk_182 0 48 (dk_at dksX0_message_0 5 rfl rfl)
theorem dX0_message_8 : decode cX0_message 8 = .ok (.i2l, 1) := dk_133 (dk_at dksX0_message_0 8 rfl rfl)
theorem dX0_message_9 : decode cX0_message 9 = .ok (.lastore, 1) := dk_80 (dk_at dksX0_message_0 9 rfl rfl)
theorem dX0_message_10 : decode cX0_message 10 = .ok (.goto 15, 3) := dk_167 0 15 (dk_at dksX0_message_0 10 rfl rfl)
theorem dX0_message_13 : decode cX0_message 13 = .ok (.astore 4, 2) := dk_58 4 (dk_at dksX0_message_0 13 rfl rfl)
theorem dX0_message_15 : decode cX0_message 15 = .ok (.iconst 1, 1) := dk_4 (dk_at dksX0_message_0 15 rfl rfl)
theorem dX0_message_16 : decode cX0_message 16 = .ok (.ireturn, 1) := dk_172 (dk_at dksX0_message_0 16 rfl rfl)
theorem dX0_message_17 : decode cX0_message 17 = .ok (.astore 4, 2) := dk_58 4 (dk_at dksX0_message_0 17 rfl rfl)
theorem dX0_message_19 : decode cX0_message 19 = .ok (.iconst 2, 1) := dk_5 (dk_at dksX0_message_0 19 rfl rfl)
theorem dX0_message_20 : decode cX0_message 20 = .ok (.ireturn, 1) := dk_172 (dk_at dksX0_message_0 20 rfl rfl)
theorem dX0_message_21 : decode cX0_message 21 = .ok (.astore 4, 2) := dk_58 4 (dk_at dksX0_message_0 21 rfl rfl)
theorem dX0_message_23 : decode cX0_message 23 = .ok (.iconst 3, 1) := dk_6 (dk_at dksX0_message_0 23 rfl rfl)
theorem dX0_message_24 : decode cX0_message 24 = .ok (.ireturn, 1) := dk_172 (dk_at dksX0_message_1 0 rfl rfl)
theorem dX0_message_25 : decode cX0_message 25 = .ok (.iconst 0, 1) := dk_3 (dk_at dksX0_message_1 1 rfl rfl)
theorem dX0_message_26 : decode cX0_message 26 = .ok (.ireturn, 1) := dk_172 (dk_at dksX0_message_1 2 rfl rfl)
abbrev cX0_digit : ByteArray := method_13_code
def yX0_digit : MethodName := ⟨RX0, "digit", "(LVotingHuts;II[J)I"⟩
def dkwX0_digit_0 : List UInt8 := [45, 3, 42, 27, 28, 182, 0, 51, 133, 80, 167, 0, 11, 58, 4, 4, 172, 58, 4, 5, 172, 3, 172]
abbrev dktX0_digit_0 : List UInt8 := dkwX0_digit_0 ++ []
theorem dksX0_digit_0 : cX0_digit.data.toList.drop 0 = dktX0_digit_0 := by decide +kernel
theorem dX0_digit_0 : decode cX0_digit 0 = .ok (.aload_n 3, 1) := dk_45 (dk_at dksX0_digit_0 0 rfl rfl)
theorem dX0_digit_1 : decode cX0_digit 1 = .ok (.iconst 0, 1) := dk_3 (dk_at dksX0_digit_0 1 rfl rfl)
theorem dX0_digit_2 : decode cX0_digit 2 = .ok (.aload_n 0, 1) := dk_42 (dk_at dksX0_digit_0 2 rfl rfl)
theorem dX0_digit_3 : decode cX0_digit 3 = .ok (.iload_n 1, 1) := dk_27 (dk_at dksX0_digit_0 3 rfl rfl)
theorem dX0_digit_4 : decode cX0_digit 4 = .ok (.iload_n 2, 1) := dk_28 (dk_at dksX0_digit_0 4 rfl rfl)
theorem dX0_digit_5 : decode cX0_digit 5 = .ok (.invokevirtual 51, 3) := dk_182 0 51 (dk_at dksX0_digit_0 5 rfl rfl)
theorem dX0_digit_8 : decode cX0_digit 8 = .ok (.i2l, 1) := dk_133 (dk_at dksX0_digit_0 8 rfl rfl)
theorem dX0_digit_9 : decode cX0_digit 9 = .ok (.lastore, 1) := dk_80 (dk_at dksX0_digit_0 9 rfl rfl)
theorem dX0_digit_10 : decode cX0_digit 10 = .ok (.goto 11, 3) := dk_167 0 11 (dk_at dksX0_digit_0 10 rfl rfl)
theorem dX0_digit_13 : decode cX0_digit 13 = .ok (.astore 4, 2) := dk_58 4 (dk_at dksX0_digit_0 13 rfl rfl)
theorem dX0_digit_15 : decode cX0_digit 15 = .ok (.iconst 1, 1) := dk_4 (dk_at dksX0_digit_0 15 rfl rfl)
theorem dX0_digit_16 : decode cX0_digit 16 = .ok (.ireturn, 1) := dk_172 (dk_at dksX0_digit_0 16 rfl rfl)
theorem dX0_digit_17 : decode cX0_digit 17 = .ok (.astore 4, 2) := dk_58 4 (dk_at dksX0_digit_0 17 rfl rfl)
theorem dX0_digit_19 : decode cX0_digit 19 = .ok (.iconst 2, 1) := dk_5 (dk_at dksX0_digit_0 19 rfl rfl)
theorem dX0_digit_20 : decode cX0_digit 20 = .ok (.ireturn, 1) := dk_172 (dk_at dksX0_digit_0 20 rfl rfl)
theorem dX0_digit_21 : decode cX0_digit 21 = .ok (.iconst 0, 1) := dk_3 (dk_at dksX0_digit_0 21 rfl rfl)
theorem dX0_digit_22 : decode cX0_digit 22 = .ok (.ireturn, 1) := dk_172 (dk_at dksX0_digit_0 22 rfl rfl)
abbrev cX0_has : ByteArray := method_14_code
def yX0_has : MethodName := ⟨RX0, "has", "(LVotingHuts;III[J)I"⟩
def dkwX0_has_1 : List UInt8 := [172]
abbrev dktX0_has_1 : List UInt8 := dkwX0_has_1 ++ []
def dkwX0_has_0 : List UInt8 := [25, 4, 3, 42, 27, 28, 29, 182, 0, 54, 133, 80, 167, 0, 11, 58, 5, 4, 172, 58, 5, 5, 172, 3]
abbrev dktX0_has_0 : List UInt8 := dkwX0_has_0 ++ dktX0_has_1
theorem dksX0_has_0 : cX0_has.data.toList.drop 0 = dktX0_has_0 := by decide +kernel
theorem dksX0_has_1 : cX0_has.data.toList.drop 24 = dktX0_has_1 := dk_seg dksX0_has_0 24 rfl rfl
theorem dX0_has_0 : decode cX0_has 0 = .ok (.aload 4, 2) := dk_25 4 (dk_at dksX0_has_0 0 rfl rfl)
theorem dX0_has_2 : decode cX0_has 2 = .ok (.iconst 0, 1) := dk_3 (dk_at dksX0_has_0 2 rfl rfl)
theorem dX0_has_3 : decode cX0_has 3 = .ok (.aload_n 0, 1) := dk_42 (dk_at dksX0_has_0 3 rfl rfl)
theorem dX0_has_4 : decode cX0_has 4 = .ok (.iload_n 1, 1) := dk_27 (dk_at dksX0_has_0 4 rfl rfl)
theorem dX0_has_5 : decode cX0_has 5 = .ok (.iload_n 2, 1) := dk_28 (dk_at dksX0_has_0 5 rfl rfl)
theorem dX0_has_6 : decode cX0_has 6 = .ok (.iload_n 3, 1) := dk_29 (dk_at dksX0_has_0 6 rfl rfl)
theorem dX0_has_7 : decode cX0_has 7 = .ok (.invokevirtual 54, 3) := dk_182 0 54 (dk_at dksX0_has_0 7 rfl rfl)
theorem dX0_has_10 : decode cX0_has 10 = .ok (.i2l, 1) := dk_133 (dk_at dksX0_has_0 10 rfl rfl)
theorem dX0_has_11 : decode cX0_has 11 = .ok (.lastore, 1) := dk_80 (dk_at dksX0_has_0 11 rfl rfl)
theorem dX0_has_12 : decode cX0_has 12 = .ok (.goto 11, 3) := dk_167 0 11 (dk_at dksX0_has_0 12 rfl rfl)
theorem dX0_has_15 : decode cX0_has 15 = .ok (.astore 5, 2) := dk_58 5 (dk_at dksX0_has_0 15 rfl rfl)
theorem dX0_has_17 : decode cX0_has 17 = .ok (.iconst 1, 1) := dk_4 (dk_at dksX0_has_0 17 rfl rfl)
theorem dX0_has_18 : decode cX0_has 18 = .ok (.ireturn, 1) := dk_172 (dk_at dksX0_has_0 18 rfl rfl)
theorem dX0_has_19 : decode cX0_has 19 = .ok (.astore 5, 2) := dk_58 5 (dk_at dksX0_has_0 19 rfl rfl)
theorem dX0_has_21 : decode cX0_has 21 = .ok (.iconst 2, 1) := dk_5 (dk_at dksX0_has_0 21 rfl rfl)
theorem dX0_has_22 : decode cX0_has 22 = .ok (.ireturn, 1) := dk_172 (dk_at dksX0_has_0 22 rfl rfl)
theorem dX0_has_23 : decode cX0_has 23 = .ok (.iconst 0, 1) := dk_3 (dk_at dksX0_has_0 23 rfl rfl)
theorem dX0_has_24 : decode cX0_has 24 = .ok (.ireturn, 1) := dk_172 (dk_at dksX0_has_1 0 rfl rfl)
abbrev cX0_copy : ByteArray := method_15_code
def yX0_copy : MethodName := ⟨RX0, "copy", "(LVotingHuts;IIII[J)I"⟩
def dkwX0_copy_1 : List UInt8 := [172, 3, 172]
abbrev dktX0_copy_1 : List UInt8 := dkwX0_copy_1 ++ []
def dkwX0_copy_0 : List UInt8 := [25, 5, 3, 42, 27, 28, 29, 21, 4, 182, 0, 58, 133, 80, 167, 0, 11, 58, 6, 4, 172, 58, 6, 5]
abbrev dktX0_copy_0 : List UInt8 := dkwX0_copy_0 ++ dktX0_copy_1
theorem dksX0_copy_0 : cX0_copy.data.toList.drop 0 = dktX0_copy_0 := by decide +kernel
theorem dksX0_copy_1 : cX0_copy.data.toList.drop 24 = dktX0_copy_1 := dk_seg dksX0_copy_0 24 rfl rfl
theorem dX0_copy_0 : decode cX0_copy 0 = .ok (.aload 5, 2) := dk_25 5 (dk_at dksX0_copy_0 0 rfl rfl)
theorem dX0_copy_2 : decode cX0_copy 2 = .ok (.iconst 0, 1) := dk_3 (dk_at dksX0_copy_0 2 rfl rfl)
theorem dX0_copy_3 : decode cX0_copy 3 = .ok (.aload_n 0, 1) := dk_42 (dk_at dksX0_copy_0 3 rfl rfl)
theorem dX0_copy_4 : decode cX0_copy 4 = .ok (.iload_n 1, 1) := dk_27 (dk_at dksX0_copy_0 4 rfl rfl)
theorem dX0_copy_5 : decode cX0_copy 5 = .ok (.iload_n 2, 1) := dk_28 (dk_at dksX0_copy_0 5 rfl rfl)
theorem dX0_copy_6 : decode cX0_copy 6 = .ok (.iload_n 3, 1) := dk_29 (dk_at dksX0_copy_0 6 rfl rfl)
theorem dX0_copy_7 : decode cX0_copy 7 = .ok (.iload 4, 2) := dk_21 4 (dk_at dksX0_copy_0 7 rfl rfl)
theorem dX0_copy_9 : decode cX0_copy 9 = .ok (.invokevirtual 58, 3) := dk_182 0 58 (dk_at dksX0_copy_0 9 rfl rfl)
theorem dX0_copy_12 : decode cX0_copy 12 = .ok (.i2l, 1) := dk_133 (dk_at dksX0_copy_0 12 rfl rfl)
theorem dX0_copy_13 : decode cX0_copy 13 = .ok (.lastore, 1) := dk_80 (dk_at dksX0_copy_0 13 rfl rfl)
theorem dX0_copy_14 : decode cX0_copy 14 = .ok (.goto 11, 3) := dk_167 0 11 (dk_at dksX0_copy_0 14 rfl rfl)
theorem dX0_copy_17 : decode cX0_copy 17 = .ok (.astore 6, 2) := dk_58 6 (dk_at dksX0_copy_0 17 rfl rfl)
theorem dX0_copy_19 : decode cX0_copy 19 = .ok (.iconst 1, 1) := dk_4 (dk_at dksX0_copy_0 19 rfl rfl)
theorem dX0_copy_20 : decode cX0_copy 20 = .ok (.ireturn, 1) := dk_172 (dk_at dksX0_copy_0 20 rfl rfl)
theorem dX0_copy_21 : decode cX0_copy 21 = .ok (.astore 6, 2) := dk_58 6 (dk_at dksX0_copy_0 21 rfl rfl)
theorem dX0_copy_23 : decode cX0_copy 23 = .ok (.iconst 2, 1) := dk_5 (dk_at dksX0_copy_0 23 rfl rfl)
theorem dX0_copy_24 : decode cX0_copy 24 = .ok (.ireturn, 1) := dk_172 (dk_at dksX0_copy_1 0 rfl rfl)
theorem dX0_copy_25 : decode cX0_copy 25 = .ok (.iconst 0, 1) := dk_3 (dk_at dksX0_copy_1 1 rfl rfl)
theorem dX0_copy_26 : decode cX0_copy 26 = .ok (.ireturn, 1) := dk_172 (dk_at dksX0_copy_1 2 rfl rfl)
abbrev cX0_vote : ByteArray := method_16_code
def yX0_vote : MethodName := ⟨RX0, "vote", "(LVotingHuts;III[J)I"⟩
def dkwX0_vote_1 : List UInt8 := [172]
abbrev dktX0_vote_1 : List UInt8 := dkwX0_vote_1 ++ []
def dkwX0_vote_0 : List UInt8 := [25, 4, 3, 42, 27, 28, 29, 182, 0, 61, 133, 80, 167, 0, 11, 58, 5, 4, 172, 58, 5, 5, 172, 3]
abbrev dktX0_vote_0 : List UInt8 := dkwX0_vote_0 ++ dktX0_vote_1
theorem dksX0_vote_0 : cX0_vote.data.toList.drop 0 = dktX0_vote_0 := by decide +kernel
theorem dksX0_vote_1 : cX0_vote.data.toList.drop 24 = dktX0_vote_1 := dk_seg dksX0_vote_0 24 rfl rfl
theorem dX0_vote_0 : decode cX0_vote 0 = .ok (.aload 4, 2) := dk_25 4 (dk_at dksX0_vote_0 0 rfl rfl)
theorem dX0_vote_2 : decode cX0_vote 2 = .ok (.iconst 0, 1) := dk_3 (dk_at dksX0_vote_0 2 rfl rfl)
theorem dX0_vote_3 : decode cX0_vote 3 = .ok (.aload_n 0, 1) := dk_42 (dk_at dksX0_vote_0 3 rfl rfl)
theorem dX0_vote_4 : decode cX0_vote 4 = .ok (.iload_n 1, 1) := dk_27 (dk_at dksX0_vote_0 4 rfl rfl)
theorem dX0_vote_5 : decode cX0_vote 5 = .ok (.iload_n 2, 1) := dk_28 (dk_at dksX0_vote_0 5 rfl rfl)
theorem dX0_vote_6 : decode cX0_vote 6 = .ok (.iload_n 3, 1) := dk_29 (dk_at dksX0_vote_0 6 rfl rfl)
theorem dX0_vote_7 : decode cX0_vote 7 = .ok (.invokevirtual 61, 3) := dk_182 0 61 (dk_at dksX0_vote_0 7 rfl rfl)
theorem dX0_vote_10 : decode cX0_vote 10 = .ok (.i2l, 1) := dk_133 (dk_at dksX0_vote_0 10 rfl rfl)
theorem dX0_vote_11 : decode cX0_vote 11 = .ok (.lastore, 1) := dk_80 (dk_at dksX0_vote_0 11 rfl rfl)
theorem dX0_vote_12 : decode cX0_vote 12 = .ok (.goto 11, 3) := dk_167 0 11 (dk_at dksX0_vote_0 12 rfl rfl)
theorem dX0_vote_15 : decode cX0_vote 15 = .ok (.astore 5, 2) := dk_58 5 (dk_at dksX0_vote_0 15 rfl rfl)
theorem dX0_vote_17 : decode cX0_vote 17 = .ok (.iconst 1, 1) := dk_4 (dk_at dksX0_vote_0 17 rfl rfl)
theorem dX0_vote_18 : decode cX0_vote 18 = .ok (.ireturn, 1) := dk_172 (dk_at dksX0_vote_0 18 rfl rfl)
theorem dX0_vote_19 : decode cX0_vote 19 = .ok (.astore 5, 2) := dk_58 5 (dk_at dksX0_vote_0 19 rfl rfl)
theorem dX0_vote_21 : decode cX0_vote 21 = .ok (.iconst 2, 1) := dk_5 (dk_at dksX0_vote_0 21 rfl rfl)
theorem dX0_vote_22 : decode cX0_vote 22 = .ok (.ireturn, 1) := dk_172 (dk_at dksX0_vote_0 22 rfl rfl)
theorem dX0_vote_23 : decode cX0_vote 23 = .ok (.iconst 0, 1) := dk_3 (dk_at dksX0_vote_0 23 rfl rfl)
theorem dX0_vote_24 : decode cX0_vote 24 = .ok (.ireturn, 1) := dk_172 (dk_at dksX0_vote_1 0 rfl rfl)
abbrev cX0_unsure : ByteArray := method_17_code
def yX0_unsure : MethodName := ⟨RX0, "unsure", "(LVotingHuts;II[J)I"⟩
def dkwX0_unsure_0 : List UInt8 := [45, 3, 42, 27, 28, 182, 0, 64, 133, 80, 167, 0, 11, 58, 4, 4, 172, 58, 4, 5, 172, 3, 172]
abbrev dktX0_unsure_0 : List UInt8 := dkwX0_unsure_0 ++ []
theorem dksX0_unsure_0 : cX0_unsure.data.toList.drop 0 = dktX0_unsure_0 := by decide +kernel
theorem dX0_unsure_0 : decode cX0_unsure 0 = .ok (.aload_n 3, 1) := dk_45 (dk_at dksX0_unsure_0 0 rfl rfl)
theorem dX0_unsure_1 : decode cX0_unsure 1 = .ok (.iconst 0, 1) := dk_3 (dk_at dksX0_unsure_0 1 rfl rfl)
theorem dX0_unsure_2 : decode cX0_unsure 2 = .ok (.aload_n 0, 1) := dk_42 (dk_at dksX0_unsure_0 2 rfl rfl)
theorem dX0_unsure_3 : decode cX0_unsure 3 = .ok (.iload_n 1, 1) := dk_27 (dk_at dksX0_unsure_0 3 rfl rfl)
theorem dX0_unsure_4 : decode cX0_unsure 4 = .ok (.iload_n 2, 1) := dk_28 (dk_at dksX0_unsure_0 4 rfl rfl)
theorem dX0_unsure_5 : decode cX0_unsure 5 = .ok (.invokevirtual 64, 3) := dk_182 0 64 (dk_at dksX0_unsure_0 5 rfl rfl)
theorem dX0_unsure_8 : decode cX0_unsure 8 = .ok (.i2l, 1) := dk_133 (dk_at dksX0_unsure_0 8 rfl rfl)
theorem dX0_unsure_9 : decode cX0_unsure 9 = .ok (.lastore, 1) := dk_80 (dk_at dksX0_unsure_0 9 rfl rfl)
theorem dX0_unsure_10 : decode cX0_unsure 10 = .ok (.goto 11, 3) := dk_167 0 11 (dk_at dksX0_unsure_0 10 rfl rfl)
theorem dX0_unsure_13 : decode cX0_unsure 13 = .ok (.astore 4, 2) := dk_58 4 (dk_at dksX0_unsure_0 13 rfl rfl)
theorem dX0_unsure_15 : decode cX0_unsure 15 = .ok (.iconst 1, 1) := dk_4 (dk_at dksX0_unsure_0 15 rfl rfl)
theorem dX0_unsure_16 : decode cX0_unsure 16 = .ok (.ireturn, 1) := dk_172 (dk_at dksX0_unsure_0 16 rfl rfl)
theorem dX0_unsure_17 : decode cX0_unsure 17 = .ok (.astore 4, 2) := dk_58 4 (dk_at dksX0_unsure_0 17 rfl rfl)
theorem dX0_unsure_19 : decode cX0_unsure 19 = .ok (.iconst 2, 1) := dk_5 (dk_at dksX0_unsure_0 19 rfl rfl)
theorem dX0_unsure_20 : decode cX0_unsure 20 = .ok (.ireturn, 1) := dk_172 (dk_at dksX0_unsure_0 20 rfl rfl)
theorem dX0_unsure_21 : decode cX0_unsure 21 = .ok (.iconst 0, 1) := dk_3 (dk_at dksX0_unsure_0 21 rfl rfl)
theorem dX0_unsure_22 : decode cX0_unsure 22 = .ok (.ireturn, 1) := dk_172 (dk_at dksX0_unsure_0 22 rfl rfl)
abbrev cX0_wrong : ByteArray := method_18_code
def yX0_wrong : MethodName := ⟨RX0, "wrong", "(LVotingHuts;II[J)I"⟩
def dkwX0_wrong_0 : List UInt8 := [45, 3, 42, 27, 28, 182, 0, 67, 133, 80, 167, 0, 11, 58, 4, 4, 172, 58, 4, 5, 172, 3, 172]
abbrev dktX0_wrong_0 : List UInt8 := dkwX0_wrong_0 ++ []
theorem dksX0_wrong_0 : cX0_wrong.data.toList.drop 0 = dktX0_wrong_0 := by decide +kernel
theorem dX0_wrong_0 : decode cX0_wrong 0 = .ok (.aload_n 3, 1) := dk_45 (dk_at dksX0_wrong_0 0 rfl rfl)
theorem dX0_wrong_1 : decode cX0_wrong 1 = .ok (.iconst 0, 1) := dk_3 (dk_at dksX0_wrong_0 1 rfl rfl)
theorem dX0_wrong_2 : decode cX0_wrong 2 = .ok (.aload_n 0, 1) := dk_42 (dk_at dksX0_wrong_0 2 rfl rfl)
theorem dX0_wrong_3 : decode cX0_wrong 3 = .ok (.iload_n 1, 1) := dk_27 (dk_at dksX0_wrong_0 3 rfl rfl)
theorem dX0_wrong_4 : decode cX0_wrong 4 = .ok (.iload_n 2, 1) := dk_28 (dk_at dksX0_wrong_0 4 rfl rfl)
theorem dX0_wrong_5 : decode cX0_wrong 5 = .ok (.invokevirtual 67, 3) := dk_182 0 67 (dk_at dksX0_wrong_0 5 rfl rfl)
theorem dX0_wrong_8 : decode cX0_wrong 8 = .ok (.i2l, 1) := dk_133 (dk_at dksX0_wrong_0 8 rfl rfl)
theorem dX0_wrong_9 : decode cX0_wrong 9 = .ok (.lastore, 1) := dk_80 (dk_at dksX0_wrong_0 9 rfl rfl)
theorem dX0_wrong_10 : decode cX0_wrong 10 = .ok (.goto 11, 3) := dk_167 0 11 (dk_at dksX0_wrong_0 10 rfl rfl)
theorem dX0_wrong_13 : decode cX0_wrong 13 = .ok (.astore 4, 2) := dk_58 4 (dk_at dksX0_wrong_0 13 rfl rfl)
theorem dX0_wrong_15 : decode cX0_wrong 15 = .ok (.iconst 1, 1) := dk_4 (dk_at dksX0_wrong_0 15 rfl rfl)
theorem dX0_wrong_16 : decode cX0_wrong 16 = .ok (.ireturn, 1) := dk_172 (dk_at dksX0_wrong_0 16 rfl rfl)
theorem dX0_wrong_17 : decode cX0_wrong 17 = .ok (.astore 4, 2) := dk_58 4 (dk_at dksX0_wrong_0 17 rfl rfl)
theorem dX0_wrong_19 : decode cX0_wrong 19 = .ok (.iconst 2, 1) := dk_5 (dk_at dksX0_wrong_0 19 rfl rfl)
theorem dX0_wrong_20 : decode cX0_wrong 20 = .ok (.ireturn, 1) := dk_172 (dk_at dksX0_wrong_0 20 rfl rfl)
theorem dX0_wrong_21 : decode cX0_wrong 21 = .ok (.iconst 0, 1) := dk_3 (dk_at dksX0_wrong_0 21 rfl rfl)
theorem dX0_wrong_22 : decode cX0_wrong 22 = .ok (.ireturn, 1) := dk_172 (dk_at dksX0_wrong_0 22 rfl rfl)
abbrev cX0_believed : ByteArray := method_19_code
def yX0_believed : MethodName := ⟨RX0, "believed", "(LVotingHuts;II[J)I"⟩
def dkwX0_believed_0 : List UInt8 := [45, 3, 42, 27, 28, 182, 0, 70, 133, 80, 167, 0, 11, 58, 4, 4, 172, 58, 4, 5, 172, 3, 172]
abbrev dktX0_believed_0 : List UInt8 := dkwX0_believed_0 ++ []
theorem dksX0_believed_0 : cX0_believed.data.toList.drop 0 = dktX0_believed_0 := by decide +kernel
theorem dX0_believed_0 : decode cX0_believed 0 = .ok (.aload_n 3, 1) := dk_45 (dk_at dksX0_believed_0 0 rfl rfl)
theorem dX0_believed_1 : decode cX0_believed 1 = .ok (.iconst 0, 1) := dk_3 (dk_at dksX0_believed_0 1 rfl rfl)
theorem dX0_believed_2 : decode cX0_believed 2 = .ok (.aload_n 0, 1) := dk_42 (dk_at dksX0_believed_0 2 rfl rfl)
theorem dX0_believed_3 : decode cX0_believed 3 = .ok (.iload_n 1, 1) := dk_27 (dk_at dksX0_believed_0 3 rfl rfl)
theorem dX0_believed_4 : decode cX0_believed 4 = .ok (.iload_n 2, 1) := dk_28 (dk_at dksX0_believed_0 4 rfl rfl)
theorem dX0_believed_5 : decode cX0_believed 5 = .ok (.invokevirtual 70, 3) := dk_182 0 70 (dk_at dksX0_believed_0 5 rfl rfl)
theorem dX0_believed_8 : decode cX0_believed 8 = .ok (.i2l, 1) := dk_133 (dk_at dksX0_believed_0 8 rfl rfl)
theorem dX0_believed_9 : decode cX0_believed 9 = .ok (.lastore, 1) := dk_80 (dk_at dksX0_believed_0 9 rfl rfl)
theorem dX0_believed_10 : decode cX0_believed 10 = .ok (.goto 11, 3) := dk_167 0 11 (dk_at dksX0_believed_0 10 rfl rfl)
theorem dX0_believed_13 : decode cX0_believed 13 = .ok (.astore 4, 2) := dk_58 4 (dk_at dksX0_believed_0 13 rfl rfl)
theorem dX0_believed_15 : decode cX0_believed 15 = .ok (.iconst 1, 1) := dk_4 (dk_at dksX0_believed_0 15 rfl rfl)
theorem dX0_believed_16 : decode cX0_believed 16 = .ok (.ireturn, 1) := dk_172 (dk_at dksX0_believed_0 16 rfl rfl)
theorem dX0_believed_17 : decode cX0_believed 17 = .ok (.astore 4, 2) := dk_58 4 (dk_at dksX0_believed_0 17 rfl rfl)
theorem dX0_believed_19 : decode cX0_believed 19 = .ok (.iconst 2, 1) := dk_5 (dk_at dksX0_believed_0 19 rfl rfl)
theorem dX0_believed_20 : decode cX0_believed 20 = .ok (.ireturn, 1) := dk_172 (dk_at dksX0_believed_0 20 rfl rfl)
theorem dX0_believed_21 : decode cX0_believed 21 = .ok (.iconst 0, 1) := dk_3 (dk_at dksX0_believed_0 21 rfl rfl)
theorem dX0_believed_22 : decode cX0_believed 22 = .ok (.ireturn, 1) := dk_172 (dk_at dksX0_believed_0 22 rfl rfl)
abbrev cX0_right : ByteArray := method_20_code
def yX0_right : MethodName := ⟨RX0, "right", "(LVotingHuts;I[J)I"⟩
def dkwX0_right_0 : List UInt8 := [44, 3, 42, 27, 182, 0, 73, 133, 80, 167, 0, 9, 78, 4, 172, 78, 5, 172, 3, 172]
abbrev dktX0_right_0 : List UInt8 := dkwX0_right_0 ++ []
theorem dksX0_right_0 : cX0_right.data.toList.drop 0 = dktX0_right_0 := by decide +kernel
theorem dX0_right_0 : decode cX0_right 0 = .ok (.aload_n 2, 1) := dk_44 (dk_at dksX0_right_0 0 rfl rfl)
theorem dX0_right_1 : decode cX0_right 1 = .ok (.iconst 0, 1) := dk_3 (dk_at dksX0_right_0 1 rfl rfl)
theorem dX0_right_2 : decode cX0_right 2 = .ok (.aload_n 0, 1) := dk_42 (dk_at dksX0_right_0 2 rfl rfl)
theorem dX0_right_3 : decode cX0_right 3 = .ok (.iload_n 1, 1) := dk_27 (dk_at dksX0_right_0 3 rfl rfl)
theorem dX0_right_4 : decode cX0_right 4 = .ok (.invokevirtual 73, 3) := dk_182 0 73 (dk_at dksX0_right_0 4 rfl rfl)
theorem dX0_right_7 : decode cX0_right 7 = .ok (.i2l, 1) := dk_133 (dk_at dksX0_right_0 7 rfl rfl)
theorem dX0_right_8 : decode cX0_right 8 = .ok (.lastore, 1) := dk_80 (dk_at dksX0_right_0 8 rfl rfl)
theorem dX0_right_9 : decode cX0_right 9 = .ok (.goto 9, 3) := dk_167 0 9 (dk_at dksX0_right_0 9 rfl rfl)
theorem dX0_right_12 : decode cX0_right 12 = .ok (.astore_n 3, 1) := dk_78 (dk_at dksX0_right_0 12 rfl rfl)
theorem dX0_right_13 : decode cX0_right 13 = .ok (.iconst 1, 1) := dk_4 (dk_at dksX0_right_0 13 rfl rfl)
theorem dX0_right_14 : decode cX0_right 14 = .ok (.ireturn, 1) := dk_172 (dk_at dksX0_right_0 14 rfl rfl)
theorem dX0_right_15 : decode cX0_right 15 = .ok (.astore_n 3, 1) := dk_78 (dk_at dksX0_right_0 15 rfl rfl)
theorem dX0_right_16 : decode cX0_right 16 = .ok (.iconst 2, 1) := dk_5 (dk_at dksX0_right_0 16 rfl rfl)
theorem dX0_right_17 : decode cX0_right 17 = .ok (.ireturn, 1) := dk_172 (dk_at dksX0_right_0 17 rfl rfl)
theorem dX0_right_18 : decode cX0_right 18 = .ok (.iconst 0, 1) := dk_3 (dk_at dksX0_right_0 18 rfl rfl)
theorem dX0_right_19 : decode cX0_right 19 = .ok (.ireturn, 1) := dk_172 (dk_at dksX0_right_0 19 rfl rfl)
abbrev cX0_liar : ByteArray := method_21_code
def yX0_liar : MethodName := ⟨RX0, "liar", "(LVotingHuts;I[J)I"⟩
def dkwX0_liar_0 : List UInt8 := [44, 3, 42, 27, 182, 0, 76, 133, 80, 167, 0, 9, 78, 4, 172, 78, 5, 172, 3, 172]
abbrev dktX0_liar_0 : List UInt8 := dkwX0_liar_0 ++ []
theorem dksX0_liar_0 : cX0_liar.data.toList.drop 0 = dktX0_liar_0 := by decide +kernel
theorem dX0_liar_0 : decode cX0_liar 0 = .ok (.aload_n 2, 1) := dk_44 (dk_at dksX0_liar_0 0 rfl rfl)
theorem dX0_liar_1 : decode cX0_liar 1 = .ok (.iconst 0, 1) := dk_3 (dk_at dksX0_liar_0 1 rfl rfl)
theorem dX0_liar_2 : decode cX0_liar 2 = .ok (.aload_n 0, 1) := dk_42 (dk_at dksX0_liar_0 2 rfl rfl)
theorem dX0_liar_3 : decode cX0_liar 3 = .ok (.iload_n 1, 1) := dk_27 (dk_at dksX0_liar_0 3 rfl rfl)
theorem dX0_liar_4 : decode cX0_liar 4 = .ok (.invokevirtual 76, 3) := dk_182 0 76 (dk_at dksX0_liar_0 4 rfl rfl)
theorem dX0_liar_7 : decode cX0_liar 7 = .ok (.i2l, 1) := dk_133 (dk_at dksX0_liar_0 7 rfl rfl)
theorem dX0_liar_8 : decode cX0_liar 8 = .ok (.lastore, 1) := dk_80 (dk_at dksX0_liar_0 8 rfl rfl)
theorem dX0_liar_9 : decode cX0_liar 9 = .ok (.goto 9, 3) := dk_167 0 9 (dk_at dksX0_liar_0 9 rfl rfl)
theorem dX0_liar_12 : decode cX0_liar 12 = .ok (.astore_n 3, 1) := dk_78 (dk_at dksX0_liar_0 12 rfl rfl)
theorem dX0_liar_13 : decode cX0_liar 13 = .ok (.iconst 1, 1) := dk_4 (dk_at dksX0_liar_0 13 rfl rfl)
theorem dX0_liar_14 : decode cX0_liar 14 = .ok (.ireturn, 1) := dk_172 (dk_at dksX0_liar_0 14 rfl rfl)
theorem dX0_liar_15 : decode cX0_liar 15 = .ok (.astore_n 3, 1) := dk_78 (dk_at dksX0_liar_0 15 rfl rfl)
theorem dX0_liar_16 : decode cX0_liar 16 = .ok (.iconst 2, 1) := dk_5 (dk_at dksX0_liar_0 16 rfl rfl)
theorem dX0_liar_17 : decode cX0_liar 17 = .ok (.ireturn, 1) := dk_172 (dk_at dksX0_liar_0 17 rfl rfl)
theorem dX0_liar_18 : decode cX0_liar 18 = .ok (.iconst 0, 1) := dk_3 (dk_at dksX0_liar_0 18 rfl rfl)
theorem dX0_liar_19 : decode cX0_liar 19 = .ok (.ireturn, 1) := dk_172 (dk_at dksX0_liar_0 19 rfl rfl)
abbrev cX0_firstWrong : ByteArray := method_22_code
def yX0_firstWrong : MethodName := ⟨RX0, "firstWrong", "(LVotingHuts;I[J)I"⟩
def dkwX0_firstWrong_0 : List UInt8 := [44, 3, 42, 27, 182, 0, 79, 133, 80, 167, 0, 9, 78, 4, 172, 78, 5, 172, 3, 172]
abbrev dktX0_firstWrong_0 : List UInt8 := dkwX0_firstWrong_0 ++ []
theorem dksX0_firstWrong_0 : cX0_firstWrong.data.toList.drop 0 = dktX0_firstWrong_0 := by decide +kernel
theorem dX0_firstWrong_0 : decode cX0_firstWrong 0 = .ok (.aload_n 2, 1) := dk_44 (dk_at dksX0_firstWrong_0 0 rfl rfl)
theorem dX0_firstWrong_1 : decode cX0_firstWrong 1 = .ok (.iconst 0, 1) := dk_3 (dk_at dksX0_firstWrong_0 1 rfl rfl)
theorem dX0_firstWrong_2 : decode cX0_firstWrong 2 = .ok (.aload_n 0, 1) := dk_42 (dk_at dksX0_firstWrong_0 2 rfl rfl)
theorem dX0_firstWrong_3 : decode cX0_firstWrong 3 = .ok (.iload_n 1, 1) := dk_27 (dk_at dksX0_firstWrong_0 3 rfl rfl)
theorem dX0_firstWrong_4 : decode cX0_firstWrong 4 = .ok (.invokevirtual 79, 3) := dk_182 0 79 (dk_at dksX0_firstWrong_0 4 rfl rfl)
theorem dX0_firstWrong_7 : decode cX0_firstWrong 7 = .ok (.i2l, 1) := dk_133 (dk_at dksX0_firstWrong_0 7 rfl rfl)
theorem dX0_firstWrong_8 : decode cX0_firstWrong 8 = .ok (.lastore, 1) := dk_80 (dk_at dksX0_firstWrong_0 8 rfl rfl)
theorem dX0_firstWrong_9 : decode cX0_firstWrong 9 = .ok (.goto 9, 3) := dk_167 0 9 (dk_at dksX0_firstWrong_0 9 rfl rfl)
theorem dX0_firstWrong_12 : decode cX0_firstWrong 12 = .ok (.astore_n 3, 1) := dk_78 (dk_at dksX0_firstWrong_0 12 rfl rfl)
theorem dX0_firstWrong_13 : decode cX0_firstWrong 13 = .ok (.iconst 1, 1) := dk_4 (dk_at dksX0_firstWrong_0 13 rfl rfl)
theorem dX0_firstWrong_14 : decode cX0_firstWrong 14 = .ok (.ireturn, 1) := dk_172 (dk_at dksX0_firstWrong_0 14 rfl rfl)
theorem dX0_firstWrong_15 : decode cX0_firstWrong 15 = .ok (.astore_n 3, 1) := dk_78 (dk_at dksX0_firstWrong_0 15 rfl rfl)
theorem dX0_firstWrong_16 : decode cX0_firstWrong 16 = .ok (.iconst 2, 1) := dk_5 (dk_at dksX0_firstWrong_0 16 rfl rfl)
theorem dX0_firstWrong_17 : decode cX0_firstWrong 17 = .ok (.ireturn, 1) := dk_172 (dk_at dksX0_firstWrong_0 17 rfl rfl)
theorem dX0_firstWrong_18 : decode cX0_firstWrong 18 = .ok (.iconst 0, 1) := dk_3 (dk_at dksX0_firstWrong_0 18 rfl rfl)
theorem dX0_firstWrong_19 : decode cX0_firstWrong 19 = .ok (.ireturn, 1) := dk_172 (dk_at dksX0_firstWrong_0 19 rfl rfl)
abbrev cX0_doubtful : ByteArray := method_23_code
def yX0_doubtful : MethodName := ⟨RX0, "doubtful", "(LVotingHuts;I[J)I"⟩
def dkwX0_doubtful_0 : List UInt8 := [44, 3, 42, 27, 182, 0, 82, 133, 80, 167, 0, 9, 78, 4, 172, 78, 5, 172, 3, 172]
abbrev dktX0_doubtful_0 : List UInt8 := dkwX0_doubtful_0 ++ []
theorem dksX0_doubtful_0 : cX0_doubtful.data.toList.drop 0 = dktX0_doubtful_0 := by decide +kernel
theorem dX0_doubtful_0 : decode cX0_doubtful 0 = .ok (.aload_n 2, 1) := dk_44 (dk_at dksX0_doubtful_0 0 rfl rfl)
theorem dX0_doubtful_1 : decode cX0_doubtful 1 = .ok (.iconst 0, 1) := dk_3 (dk_at dksX0_doubtful_0 1 rfl rfl)
theorem dX0_doubtful_2 : decode cX0_doubtful 2 = .ok (.aload_n 0, 1) := dk_42 (dk_at dksX0_doubtful_0 2 rfl rfl)
theorem dX0_doubtful_3 : decode cX0_doubtful 3 = .ok (.iload_n 1, 1) := dk_27 (dk_at dksX0_doubtful_0 3 rfl rfl)
theorem dX0_doubtful_4 : decode cX0_doubtful 4 = .ok (.invokevirtual 82, 3) := dk_182 0 82 (dk_at dksX0_doubtful_0 4 rfl rfl)
theorem dX0_doubtful_7 : decode cX0_doubtful 7 = .ok (.i2l, 1) := dk_133 (dk_at dksX0_doubtful_0 7 rfl rfl)
theorem dX0_doubtful_8 : decode cX0_doubtful 8 = .ok (.lastore, 1) := dk_80 (dk_at dksX0_doubtful_0 8 rfl rfl)
theorem dX0_doubtful_9 : decode cX0_doubtful 9 = .ok (.goto 9, 3) := dk_167 0 9 (dk_at dksX0_doubtful_0 9 rfl rfl)
theorem dX0_doubtful_12 : decode cX0_doubtful 12 = .ok (.astore_n 3, 1) := dk_78 (dk_at dksX0_doubtful_0 12 rfl rfl)
theorem dX0_doubtful_13 : decode cX0_doubtful 13 = .ok (.iconst 1, 1) := dk_4 (dk_at dksX0_doubtful_0 13 rfl rfl)
theorem dX0_doubtful_14 : decode cX0_doubtful 14 = .ok (.ireturn, 1) := dk_172 (dk_at dksX0_doubtful_0 14 rfl rfl)
theorem dX0_doubtful_15 : decode cX0_doubtful 15 = .ok (.astore_n 3, 1) := dk_78 (dk_at dksX0_doubtful_0 15 rfl rfl)
theorem dX0_doubtful_16 : decode cX0_doubtful 16 = .ok (.iconst 2, 1) := dk_5 (dk_at dksX0_doubtful_0 16 rfl rfl)
theorem dX0_doubtful_17 : decode cX0_doubtful 17 = .ok (.ireturn, 1) := dk_172 (dk_at dksX0_doubtful_0 17 rfl rfl)
theorem dX0_doubtful_18 : decode cX0_doubtful 18 = .ok (.iconst 0, 1) := dk_3 (dk_at dksX0_doubtful_0 18 rfl rfl)
theorem dX0_doubtful_19 : decode cX0_doubtful 19 = .ok (.ireturn, 1) := dk_172 (dk_at dksX0_doubtful_0 19 rfl rfl)
abbrev cX0_agreeing : ByteArray := method_24_code
def yX0_agreeing : MethodName := ⟨RX0, "agreeing", "(LVotingHuts;I[J)I"⟩
def dkwX0_agreeing_0 : List UInt8 := [44, 3, 42, 27, 182, 0, 85, 133, 80, 167, 0, 9, 78, 4, 172, 78, 5, 172, 3, 172]
abbrev dktX0_agreeing_0 : List UInt8 := dkwX0_agreeing_0 ++ []
theorem dksX0_agreeing_0 : cX0_agreeing.data.toList.drop 0 = dktX0_agreeing_0 := by decide +kernel
theorem dX0_agreeing_0 : decode cX0_agreeing 0 = .ok (.aload_n 2, 1) := dk_44 (dk_at dksX0_agreeing_0 0 rfl rfl)
theorem dX0_agreeing_1 : decode cX0_agreeing 1 = .ok (.iconst 0, 1) := dk_3 (dk_at dksX0_agreeing_0 1 rfl rfl)
theorem dX0_agreeing_2 : decode cX0_agreeing 2 = .ok (.aload_n 0, 1) := dk_42 (dk_at dksX0_agreeing_0 2 rfl rfl)
theorem dX0_agreeing_3 : decode cX0_agreeing 3 = .ok (.iload_n 1, 1) := dk_27 (dk_at dksX0_agreeing_0 3 rfl rfl)
theorem dX0_agreeing_4 : decode cX0_agreeing 4 = .ok (.invokevirtual 85, 3) := dk_182 0 85 (dk_at dksX0_agreeing_0 4 rfl rfl)
theorem dX0_agreeing_7 : decode cX0_agreeing 7 = .ok (.i2l, 1) := dk_133 (dk_at dksX0_agreeing_0 7 rfl rfl)
theorem dX0_agreeing_8 : decode cX0_agreeing 8 = .ok (.lastore, 1) := dk_80 (dk_at dksX0_agreeing_0 8 rfl rfl)
theorem dX0_agreeing_9 : decode cX0_agreeing 9 = .ok (.goto 9, 3) := dk_167 0 9 (dk_at dksX0_agreeing_0 9 rfl rfl)
theorem dX0_agreeing_12 : decode cX0_agreeing 12 = .ok (.astore_n 3, 1) := dk_78 (dk_at dksX0_agreeing_0 12 rfl rfl)
theorem dX0_agreeing_13 : decode cX0_agreeing 13 = .ok (.iconst 1, 1) := dk_4 (dk_at dksX0_agreeing_0 13 rfl rfl)
theorem dX0_agreeing_14 : decode cX0_agreeing 14 = .ok (.ireturn, 1) := dk_172 (dk_at dksX0_agreeing_0 14 rfl rfl)
theorem dX0_agreeing_15 : decode cX0_agreeing 15 = .ok (.astore_n 3, 1) := dk_78 (dk_at dksX0_agreeing_0 15 rfl rfl)
theorem dX0_agreeing_16 : decode cX0_agreeing 16 = .ok (.iconst 2, 1) := dk_5 (dk_at dksX0_agreeing_0 16 rfl rfl)
theorem dX0_agreeing_17 : decode cX0_agreeing 17 = .ok (.ireturn, 1) := dk_172 (dk_at dksX0_agreeing_0 17 rfl rfl)
theorem dX0_agreeing_18 : decode cX0_agreeing 18 = .ok (.iconst 0, 1) := dk_3 (dk_at dksX0_agreeing_0 18 rfl rfl)
theorem dX0_agreeing_19 : decode cX0_agreeing 19 = .ok (.ireturn, 1) := dk_172 (dk_at dksX0_agreeing_0 19 rfl rfl)
abbrev cX0_oldest : ByteArray := method_25_code
def yX0_oldest : MethodName := ⟨RX0, "oldest", "(LVotingHuts;[J)I"⟩
def dkwX0_oldest_0 : List UInt8 := [43, 3, 42, 182, 0, 88, 133, 80, 167, 0, 6, 77, 4, 172, 3, 172]
abbrev dktX0_oldest_0 : List UInt8 := dkwX0_oldest_0 ++ []
theorem dksX0_oldest_0 : cX0_oldest.data.toList.drop 0 = dktX0_oldest_0 := by decide +kernel
theorem dX0_oldest_0 : decode cX0_oldest 0 = .ok (.aload_n 1, 1) := dk_43 (dk_at dksX0_oldest_0 0 rfl rfl)
theorem dX0_oldest_1 : decode cX0_oldest 1 = .ok (.iconst 0, 1) := dk_3 (dk_at dksX0_oldest_0 1 rfl rfl)
theorem dX0_oldest_2 : decode cX0_oldest 2 = .ok (.aload_n 0, 1) := dk_42 (dk_at dksX0_oldest_0 2 rfl rfl)
theorem dX0_oldest_3 : decode cX0_oldest 3 = .ok (.invokevirtual 88, 3) := dk_182 0 88 (dk_at dksX0_oldest_0 3 rfl rfl)
theorem dX0_oldest_6 : decode cX0_oldest 6 = .ok (.i2l, 1) := dk_133 (dk_at dksX0_oldest_0 6 rfl rfl)
theorem dX0_oldest_7 : decode cX0_oldest 7 = .ok (.lastore, 1) := dk_80 (dk_at dksX0_oldest_0 7 rfl rfl)
theorem dX0_oldest_8 : decode cX0_oldest 8 = .ok (.goto 6, 3) := dk_167 0 6 (dk_at dksX0_oldest_0 8 rfl rfl)
theorem dX0_oldest_11 : decode cX0_oldest 11 = .ok (.astore_n 2, 1) := dk_77 (dk_at dksX0_oldest_0 11 rfl rfl)
theorem dX0_oldest_12 : decode cX0_oldest 12 = .ok (.iconst 1, 1) := dk_4 (dk_at dksX0_oldest_0 12 rfl rfl)
theorem dX0_oldest_13 : decode cX0_oldest 13 = .ok (.ireturn, 1) := dk_172 (dk_at dksX0_oldest_0 13 rfl rfl)
theorem dX0_oldest_14 : decode cX0_oldest 14 = .ok (.iconst 0, 1) := dk_3 (dk_at dksX0_oldest_0 14 rfl rfl)
theorem dX0_oldest_15 : decode cX0_oldest 15 = .ok (.ireturn, 1) := dk_172 (dk_at dksX0_oldest_0 15 rfl rfl)
abbrev cX0_next : ByteArray := method_26_code
def yX0_next : MethodName := ⟨RX0, "next", "(LVotingHuts;I[J)I"⟩
def dkwX0_next_0 : List UInt8 := [44, 3, 42, 27, 182, 0, 91, 133, 80, 167, 0, 9, 78, 4, 172, 78, 5, 172, 3, 172]
abbrev dktX0_next_0 : List UInt8 := dkwX0_next_0 ++ []
theorem dksX0_next_0 : cX0_next.data.toList.drop 0 = dktX0_next_0 := by decide +kernel
theorem dX0_next_0 : decode cX0_next 0 = .ok (.aload_n 2, 1) := dk_44 (dk_at dksX0_next_0 0 rfl rfl)
theorem dX0_next_1 : decode cX0_next 1 = .ok (.iconst 0, 1) := dk_3 (dk_at dksX0_next_0 1 rfl rfl)
theorem dX0_next_2 : decode cX0_next 2 = .ok (.aload_n 0, 1) := dk_42 (dk_at dksX0_next_0 2 rfl rfl)
theorem dX0_next_3 : decode cX0_next 3 = .ok (.iload_n 1, 1) := dk_27 (dk_at dksX0_next_0 3 rfl rfl)
theorem dX0_next_4 : decode cX0_next 4 = .ok (.invokevirtual 91, 3) := dk_182 0 91 (dk_at dksX0_next_0 4 rfl rfl)
theorem dX0_next_7 : decode cX0_next 7 = .ok (.i2l, 1) := dk_133 (dk_at dksX0_next_0 7 rfl rfl)
theorem dX0_next_8 : decode cX0_next 8 = .ok (.lastore, 1) := dk_80 (dk_at dksX0_next_0 8 rfl rfl)
theorem dX0_next_9 : decode cX0_next 9 = .ok (.goto 9, 3) := dk_167 0 9 (dk_at dksX0_next_0 9 rfl rfl)
theorem dX0_next_12 : decode cX0_next 12 = .ok (.astore_n 3, 1) := dk_78 (dk_at dksX0_next_0 12 rfl rfl)
theorem dX0_next_13 : decode cX0_next 13 = .ok (.iconst 1, 1) := dk_4 (dk_at dksX0_next_0 13 rfl rfl)
theorem dX0_next_14 : decode cX0_next 14 = .ok (.ireturn, 1) := dk_172 (dk_at dksX0_next_0 14 rfl rfl)
theorem dX0_next_15 : decode cX0_next 15 = .ok (.astore_n 3, 1) := dk_78 (dk_at dksX0_next_0 15 rfl rfl)
theorem dX0_next_16 : decode cX0_next 16 = .ok (.iconst 2, 1) := dk_5 (dk_at dksX0_next_0 16 rfl rfl)
theorem dX0_next_17 : decode cX0_next 17 = .ok (.ireturn, 1) := dk_172 (dk_at dksX0_next_0 17 rfl rfl)
theorem dX0_next_18 : decode cX0_next 18 = .ok (.iconst 0, 1) := dk_3 (dk_at dksX0_next_0 18 rfl rfl)
theorem dX0_next_19 : decode cX0_next 19 = .ok (.ireturn, 1) := dk_172 (dk_at dksX0_next_0 19 rfl rfl)
abbrev cX0_gap : ByteArray := method_27_code
def yX0_gap : MethodName := ⟨RX0, "gap", "(LVotingHuts;[J)I"⟩
def dkwX0_gap_0 : List UInt8 := [43, 3, 42, 182, 0, 94, 133, 80, 167, 0, 6, 77, 4, 172, 3, 172]
abbrev dktX0_gap_0 : List UInt8 := dkwX0_gap_0 ++ []
theorem dksX0_gap_0 : cX0_gap.data.toList.drop 0 = dktX0_gap_0 := by decide +kernel
theorem dX0_gap_0 : decode cX0_gap 0 = .ok (.aload_n 1, 1) := dk_43 (dk_at dksX0_gap_0 0 rfl rfl)
theorem dX0_gap_1 : decode cX0_gap 1 = .ok (.iconst 0, 1) := dk_3 (dk_at dksX0_gap_0 1 rfl rfl)
theorem dX0_gap_2 : decode cX0_gap 2 = .ok (.aload_n 0, 1) := dk_42 (dk_at dksX0_gap_0 2 rfl rfl)
theorem dX0_gap_3 : decode cX0_gap 3 = .ok (.invokevirtual 94, 3) := dk_182 0 94 (dk_at dksX0_gap_0 3 rfl rfl)
theorem dX0_gap_6 : decode cX0_gap 6 = .ok (.i2l, 1) := dk_133 (dk_at dksX0_gap_0 6 rfl rfl)
theorem dX0_gap_7 : decode cX0_gap 7 = .ok (.lastore, 1) := dk_80 (dk_at dksX0_gap_0 7 rfl rfl)
theorem dX0_gap_8 : decode cX0_gap 8 = .ok (.goto 6, 3) := dk_167 0 6 (dk_at dksX0_gap_0 8 rfl rfl)
theorem dX0_gap_11 : decode cX0_gap 11 = .ok (.astore_n 2, 1) := dk_77 (dk_at dksX0_gap_0 11 rfl rfl)
theorem dX0_gap_12 : decode cX0_gap 12 = .ok (.iconst 1, 1) := dk_4 (dk_at dksX0_gap_0 12 rfl rfl)
theorem dX0_gap_13 : decode cX0_gap 13 = .ok (.ireturn, 1) := dk_172 (dk_at dksX0_gap_0 13 rfl rfl)
theorem dX0_gap_14 : decode cX0_gap 14 = .ok (.iconst 0, 1) := dk_3 (dk_at dksX0_gap_0 14 rfl rfl)
theorem dX0_gap_15 : decode cX0_gap 15 = .ok (.ireturn, 1) := dk_172 (dk_at dksX0_gap_0 15 rfl rfl)
abbrev cX0_logged : ByteArray := method_28_code
def yX0_logged : MethodName := ⟨RX0, "logged", "(LVotingHuts;II[J)I"⟩
def dkwX0_logged_0 : List UInt8 := [45, 3, 42, 27, 28, 182, 0, 97, 133, 80, 167, 0, 11, 58, 4, 4, 172, 58, 4, 5, 172, 3, 172]
abbrev dktX0_logged_0 : List UInt8 := dkwX0_logged_0 ++ []
theorem dksX0_logged_0 : cX0_logged.data.toList.drop 0 = dktX0_logged_0 := by decide +kernel
theorem dX0_logged_0 : decode cX0_logged 0 = .ok (.aload_n 3, 1) := dk_45 (dk_at dksX0_logged_0 0 rfl rfl)
theorem dX0_logged_1 : decode cX0_logged 1 = .ok (.iconst 0, 1) := dk_3 (dk_at dksX0_logged_0 1 rfl rfl)
theorem dX0_logged_2 : decode cX0_logged 2 = .ok (.aload_n 0, 1) := dk_42 (dk_at dksX0_logged_0 2 rfl rfl)
theorem dX0_logged_3 : decode cX0_logged 3 = .ok (.iload_n 1, 1) := dk_27 (dk_at dksX0_logged_0 3 rfl rfl)
theorem dX0_logged_4 : decode cX0_logged 4 = .ok (.iload_n 2, 1) := dk_28 (dk_at dksX0_logged_0 4 rfl rfl)
theorem dX0_logged_5 : decode cX0_logged 5 = .ok (.invokevirtual 97, 3) := dk_182 0 97 (dk_at dksX0_logged_0 5 rfl rfl)
theorem dX0_logged_8 : decode cX0_logged 8 = .ok (.i2l, 1) := dk_133 (dk_at dksX0_logged_0 8 rfl rfl)
theorem dX0_logged_9 : decode cX0_logged 9 = .ok (.lastore, 1) := dk_80 (dk_at dksX0_logged_0 9 rfl rfl)
theorem dX0_logged_10 : decode cX0_logged 10 = .ok (.goto 11, 3) := dk_167 0 11 (dk_at dksX0_logged_0 10 rfl rfl)
theorem dX0_logged_13 : decode cX0_logged 13 = .ok (.astore 4, 2) := dk_58 4 (dk_at dksX0_logged_0 13 rfl rfl)
theorem dX0_logged_15 : decode cX0_logged 15 = .ok (.iconst 1, 1) := dk_4 (dk_at dksX0_logged_0 15 rfl rfl)
theorem dX0_logged_16 : decode cX0_logged 16 = .ok (.ireturn, 1) := dk_172 (dk_at dksX0_logged_0 16 rfl rfl)
theorem dX0_logged_17 : decode cX0_logged 17 = .ok (.astore 4, 2) := dk_58 4 (dk_at dksX0_logged_0 17 rfl rfl)
theorem dX0_logged_19 : decode cX0_logged 19 = .ok (.iconst 2, 1) := dk_5 (dk_at dksX0_logged_0 19 rfl rfl)
theorem dX0_logged_20 : decode cX0_logged 20 = .ok (.ireturn, 1) := dk_172 (dk_at dksX0_logged_0 20 rfl rfl)
theorem dX0_logged_21 : decode cX0_logged 21 = .ok (.iconst 0, 1) := dk_3 (dk_at dksX0_logged_0 21 rfl rfl)
theorem dX0_logged_22 : decode cX0_logged 22 = .ok (.ireturn, 1) := dk_172 (dk_at dksX0_logged_0 22 rfl rfl)
abbrev cX0_entries : ByteArray := method_29_code
def yX0_entries : MethodName := ⟨RX0, "entries", "(LVotingHuts;I[J)I"⟩
def dkwX0_entries_0 : List UInt8 := [44, 3, 42, 27, 182, 0, 100, 133, 80, 167, 0, 9, 78, 4, 172, 78, 5, 172, 3, 172]
abbrev dktX0_entries_0 : List UInt8 := dkwX0_entries_0 ++ []
theorem dksX0_entries_0 : cX0_entries.data.toList.drop 0 = dktX0_entries_0 := by decide +kernel
theorem dX0_entries_0 : decode cX0_entries 0 = .ok (.aload_n 2, 1) := dk_44 (dk_at dksX0_entries_0 0 rfl rfl)
theorem dX0_entries_1 : decode cX0_entries 1 = .ok (.iconst 0, 1) := dk_3 (dk_at dksX0_entries_0 1 rfl rfl)
theorem dX0_entries_2 : decode cX0_entries 2 = .ok (.aload_n 0, 1) := dk_42 (dk_at dksX0_entries_0 2 rfl rfl)
theorem dX0_entries_3 : decode cX0_entries 3 = .ok (.iload_n 1, 1) := dk_27 (dk_at dksX0_entries_0 3 rfl rfl)
theorem dX0_entries_4 : decode cX0_entries 4 = .ok (.invokevirtual 100, 3) := dk_182 0 100 (dk_at dksX0_entries_0 4 rfl rfl)
theorem dX0_entries_7 : decode cX0_entries 7 = .ok (.i2l, 1) := dk_133 (dk_at dksX0_entries_0 7 rfl rfl)
theorem dX0_entries_8 : decode cX0_entries 8 = .ok (.lastore, 1) := dk_80 (dk_at dksX0_entries_0 8 rfl rfl)
theorem dX0_entries_9 : decode cX0_entries 9 = .ok (.goto 9, 3) := dk_167 0 9 (dk_at dksX0_entries_0 9 rfl rfl)
theorem dX0_entries_12 : decode cX0_entries 12 = .ok (.astore_n 3, 1) := dk_78 (dk_at dksX0_entries_0 12 rfl rfl)
theorem dX0_entries_13 : decode cX0_entries 13 = .ok (.iconst 1, 1) := dk_4 (dk_at dksX0_entries_0 13 rfl rfl)
theorem dX0_entries_14 : decode cX0_entries 14 = .ok (.ireturn, 1) := dk_172 (dk_at dksX0_entries_0 14 rfl rfl)
theorem dX0_entries_15 : decode cX0_entries 15 = .ok (.astore_n 3, 1) := dk_78 (dk_at dksX0_entries_0 15 rfl rfl)
theorem dX0_entries_16 : decode cX0_entries 16 = .ok (.iconst 2, 1) := dk_5 (dk_at dksX0_entries_0 16 rfl rfl)
theorem dX0_entries_17 : decode cX0_entries 17 = .ok (.ireturn, 1) := dk_172 (dk_at dksX0_entries_0 17 rfl rfl)
theorem dX0_entries_18 : decode cX0_entries 18 = .ok (.iconst 0, 1) := dk_3 (dk_at dksX0_entries_0 18 rfl rfl)
theorem dX0_entries_19 : decode cX0_entries 19 = .ok (.ireturn, 1) := dk_172 (dk_at dksX0_entries_0 19 rfl rfl)
abbrev cX0_arrivesIn : ByteArray := method_30_code
def yX0_arrivesIn : MethodName := ⟨RX0, "arrivesIn", "(LVotingHuts;I[J)I"⟩
def dkwX0_arrivesIn_0 : List UInt8 := [44, 3, 42, 27, 182, 0, 103, 133, 80, 167, 0, 9, 78, 4, 172, 78, 5, 172, 3, 172]
abbrev dktX0_arrivesIn_0 : List UInt8 := dkwX0_arrivesIn_0 ++ []
theorem dksX0_arrivesIn_0 : cX0_arrivesIn.data.toList.drop 0 = dktX0_arrivesIn_0 := by decide +kernel
theorem dX0_arrivesIn_0 : decode cX0_arrivesIn 0 = .ok (.aload_n 2, 1) := dk_44 (dk_at dksX0_arrivesIn_0 0 rfl rfl)
theorem dX0_arrivesIn_1 : decode cX0_arrivesIn 1 = .ok (.iconst 0, 1) := dk_3 (dk_at dksX0_arrivesIn_0 1 rfl rfl)
theorem dX0_arrivesIn_2 : decode cX0_arrivesIn 2 = .ok (.aload_n 0, 1) := dk_42 (dk_at dksX0_arrivesIn_0 2 rfl rfl)
theorem dX0_arrivesIn_3 : decode cX0_arrivesIn 3 = .ok (.iload_n 1, 1) := dk_27 (dk_at dksX0_arrivesIn_0 3 rfl rfl)
theorem dX0_arrivesIn_4 : decode cX0_arrivesIn 4 = .ok (.invokevirtual 103, 3) := dk_182 0 103 (dk_at dksX0_arrivesIn_0 4 rfl rfl)
theorem dX0_arrivesIn_7 : decode cX0_arrivesIn 7 = .ok (.i2l, 1) := dk_133 (dk_at dksX0_arrivesIn_0 7 rfl rfl)
theorem dX0_arrivesIn_8 : decode cX0_arrivesIn 8 = .ok (.lastore, 1) := dk_80 (dk_at dksX0_arrivesIn_0 8 rfl rfl)
theorem dX0_arrivesIn_9 : decode cX0_arrivesIn 9 = .ok (.goto 9, 3) := dk_167 0 9 (dk_at dksX0_arrivesIn_0 9 rfl rfl)
theorem dX0_arrivesIn_12 : decode cX0_arrivesIn 12 = .ok (.astore_n 3, 1) := dk_78 (dk_at dksX0_arrivesIn_0 12 rfl rfl)
theorem dX0_arrivesIn_13 : decode cX0_arrivesIn 13 = .ok (.iconst 1, 1) := dk_4 (dk_at dksX0_arrivesIn_0 13 rfl rfl)
theorem dX0_arrivesIn_14 : decode cX0_arrivesIn 14 = .ok (.ireturn, 1) := dk_172 (dk_at dksX0_arrivesIn_0 14 rfl rfl)
theorem dX0_arrivesIn_15 : decode cX0_arrivesIn 15 = .ok (.astore_n 3, 1) := dk_78 (dk_at dksX0_arrivesIn_0 15 rfl rfl)
theorem dX0_arrivesIn_16 : decode cX0_arrivesIn 16 = .ok (.iconst 2, 1) := dk_5 (dk_at dksX0_arrivesIn_0 16 rfl rfl)
theorem dX0_arrivesIn_17 : decode cX0_arrivesIn 17 = .ok (.ireturn, 1) := dk_172 (dk_at dksX0_arrivesIn_0 17 rfl rfl)
theorem dX0_arrivesIn_18 : decode cX0_arrivesIn 18 = .ok (.iconst 0, 1) := dk_3 (dk_at dksX0_arrivesIn_0 18 rfl rfl)
theorem dX0_arrivesIn_19 : decode cX0_arrivesIn 19 = .ok (.ireturn, 1) := dk_172 (dk_at dksX0_arrivesIn_0 19 rfl rfl)
abbrev cX0_rightThen : ByteArray := method_31_code
def yX0_rightThen : MethodName := ⟨RX0, "rightThen", "(LVotingHuts;I[J)I"⟩
def dkwX0_rightThen_0 : List UInt8 := [44, 3, 42, 27, 182, 0, 106, 133, 80, 167, 0, 9, 78, 4, 172, 78, 5, 172, 3, 172]
abbrev dktX0_rightThen_0 : List UInt8 := dkwX0_rightThen_0 ++ []
theorem dksX0_rightThen_0 : cX0_rightThen.data.toList.drop 0 = dktX0_rightThen_0 := by decide +kernel
theorem dX0_rightThen_0 : decode cX0_rightThen 0 = .ok (.aload_n 2, 1) := dk_44 (dk_at dksX0_rightThen_0 0 rfl rfl)
theorem dX0_rightThen_1 : decode cX0_rightThen 1 = .ok (.iconst 0, 1) := dk_3 (dk_at dksX0_rightThen_0 1 rfl rfl)
theorem dX0_rightThen_2 : decode cX0_rightThen 2 = .ok (.aload_n 0, 1) := dk_42 (dk_at dksX0_rightThen_0 2 rfl rfl)
theorem dX0_rightThen_3 : decode cX0_rightThen 3 = .ok (.iload_n 1, 1) := dk_27 (dk_at dksX0_rightThen_0 3 rfl rfl)
theorem dX0_rightThen_4 : decode cX0_rightThen 4 = .ok (.invokevirtual 106, 3) := dk_182 0 106 (dk_at dksX0_rightThen_0 4 rfl rfl)
theorem dX0_rightThen_7 : decode cX0_rightThen 7 = .ok (.i2l, 1) := dk_133 (dk_at dksX0_rightThen_0 7 rfl rfl)
theorem dX0_rightThen_8 : decode cX0_rightThen 8 = .ok (.lastore, 1) := dk_80 (dk_at dksX0_rightThen_0 8 rfl rfl)
theorem dX0_rightThen_9 : decode cX0_rightThen 9 = .ok (.goto 9, 3) := dk_167 0 9 (dk_at dksX0_rightThen_0 9 rfl rfl)
theorem dX0_rightThen_12 : decode cX0_rightThen 12 = .ok (.astore_n 3, 1) := dk_78 (dk_at dksX0_rightThen_0 12 rfl rfl)
theorem dX0_rightThen_13 : decode cX0_rightThen 13 = .ok (.iconst 1, 1) := dk_4 (dk_at dksX0_rightThen_0 13 rfl rfl)
theorem dX0_rightThen_14 : decode cX0_rightThen 14 = .ok (.ireturn, 1) := dk_172 (dk_at dksX0_rightThen_0 14 rfl rfl)
theorem dX0_rightThen_15 : decode cX0_rightThen 15 = .ok (.astore_n 3, 1) := dk_78 (dk_at dksX0_rightThen_0 15 rfl rfl)
theorem dX0_rightThen_16 : decode cX0_rightThen 16 = .ok (.iconst 2, 1) := dk_5 (dk_at dksX0_rightThen_0 16 rfl rfl)
theorem dX0_rightThen_17 : decode cX0_rightThen 17 = .ok (.ireturn, 1) := dk_172 (dk_at dksX0_rightThen_0 17 rfl rfl)
theorem dX0_rightThen_18 : decode cX0_rightThen 18 = .ok (.iconst 0, 1) := dk_3 (dk_at dksX0_rightThen_0 18 rfl rfl)
theorem dX0_rightThen_19 : decode cX0_rightThen 19 = .ok (.ireturn, 1) := dk_172 (dk_at dksX0_rightThen_0 19 rfl rfl)
abbrev cX0_believedThen : ByteArray := method_32_code
def yX0_believedThen : MethodName := ⟨RX0, "believedThen", "(LVotingHuts;II[J)I"⟩
def dkwX0_believedThen_0 : List UInt8 := [45, 3, 42, 27, 28, 182, 0, 109, 133, 80, 167, 0, 11, 58, 4, 4, 172, 58, 4, 5, 172, 3, 172]
abbrev dktX0_believedThen_0 : List UInt8 := dkwX0_believedThen_0 ++ []
theorem dksX0_believedThen_0 : cX0_believedThen.data.toList.drop 0 = dktX0_believedThen_0 := by decide +kernel
theorem dX0_believedThen_0 : decode cX0_believedThen 0 = .ok (.aload_n 3, 1) := dk_45 (dk_at dksX0_believedThen_0 0 rfl rfl)
theorem dX0_believedThen_1 : decode cX0_believedThen 1 = .ok (.iconst 0, 1) := dk_3 (dk_at dksX0_believedThen_0 1 rfl rfl)
theorem dX0_believedThen_2 : decode cX0_believedThen 2 = .ok (.aload_n 0, 1) := dk_42 (dk_at dksX0_believedThen_0 2 rfl rfl)
theorem dX0_believedThen_3 : decode cX0_believedThen 3 = .ok (.iload_n 1, 1) := dk_27 (dk_at dksX0_believedThen_0 3 rfl rfl)
theorem dX0_believedThen_4 : decode cX0_believedThen 4 = .ok (.iload_n 2, 1) := dk_28 (dk_at dksX0_believedThen_0 4 rfl rfl)
theorem dX0_believedThen_5 : decode cX0_believedThen 5 = .ok (.invokevirtual 109, 3) := dk_182 0 109 (dk_at dksX0_believedThen_0 5 rfl rfl)
theorem dX0_believedThen_8 : decode cX0_believedThen 8 = .ok (.i2l, 1) := dk_133 (dk_at dksX0_believedThen_0 8 rfl rfl)
theorem dX0_believedThen_9 : decode cX0_believedThen 9 = .ok (.lastore, 1) := dk_80 (dk_at dksX0_believedThen_0 9 rfl rfl)
theorem dX0_believedThen_10 : decode cX0_believedThen 10 = .ok (.goto 11, 3) := dk_167 0 11 (dk_at dksX0_believedThen_0 10 rfl rfl)
theorem dX0_believedThen_13 : decode cX0_believedThen 13 = .ok (.astore 4, 2) := dk_58 4 (dk_at dksX0_believedThen_0 13 rfl rfl)
theorem dX0_believedThen_15 : decode cX0_believedThen 15 = .ok (.iconst 1, 1) := dk_4 (dk_at dksX0_believedThen_0 15 rfl rfl)
theorem dX0_believedThen_16 : decode cX0_believedThen 16 = .ok (.ireturn, 1) := dk_172 (dk_at dksX0_believedThen_0 16 rfl rfl)
theorem dX0_believedThen_17 : decode cX0_believedThen 17 = .ok (.astore 4, 2) := dk_58 4 (dk_at dksX0_believedThen_0 17 rfl rfl)
theorem dX0_believedThen_19 : decode cX0_believedThen 19 = .ok (.iconst 2, 1) := dk_5 (dk_at dksX0_believedThen_0 19 rfl rfl)
theorem dX0_believedThen_20 : decode cX0_believedThen 20 = .ok (.ireturn, 1) := dk_172 (dk_at dksX0_believedThen_0 20 rfl rfl)
theorem dX0_believedThen_21 : decode cX0_believedThen 21 = .ok (.iconst 0, 1) := dk_3 (dk_at dksX0_believedThen_0 21 rfl rfl)
theorem dX0_believedThen_22 : decode cX0_believedThen 22 = .ok (.ireturn, 1) := dk_172 (dk_at dksX0_believedThen_0 22 rfl rfl)
abbrev cX0_copiesIn : ByteArray := method_33_code
def yX0_copiesIn : MethodName := ⟨RX0, "copiesIn", "(LVotingHuts;II[J)I"⟩
def dkwX0_copiesIn_0 : List UInt8 := [45, 3, 42, 27, 28, 182, 0, 112, 133, 80, 167, 0, 11, 58, 4, 4, 172, 58, 4, 5, 172, 3, 172]
abbrev dktX0_copiesIn_0 : List UInt8 := dkwX0_copiesIn_0 ++ []
theorem dksX0_copiesIn_0 : cX0_copiesIn.data.toList.drop 0 = dktX0_copiesIn_0 := by decide +kernel
theorem dX0_copiesIn_0 : decode cX0_copiesIn 0 = .ok (.aload_n 3, 1) := dk_45 (dk_at dksX0_copiesIn_0 0 rfl rfl)
theorem dX0_copiesIn_1 : decode cX0_copiesIn 1 = .ok (.iconst 0, 1) := dk_3 (dk_at dksX0_copiesIn_0 1 rfl rfl)
theorem dX0_copiesIn_2 : decode cX0_copiesIn 2 = .ok (.aload_n 0, 1) := dk_42 (dk_at dksX0_copiesIn_0 2 rfl rfl)
theorem dX0_copiesIn_3 : decode cX0_copiesIn 3 = .ok (.iload_n 1, 1) := dk_27 (dk_at dksX0_copiesIn_0 3 rfl rfl)
theorem dX0_copiesIn_4 : decode cX0_copiesIn 4 = .ok (.iload_n 2, 1) := dk_28 (dk_at dksX0_copiesIn_0 4 rfl rfl)
theorem dX0_copiesIn_5 : decode cX0_copiesIn 5 = .ok (.invokevirtual 112, 3) := dk_182 0 112 (dk_at dksX0_copiesIn_0 5 rfl rfl)
theorem dX0_copiesIn_8 : decode cX0_copiesIn 8 = .ok (.i2l, 1) := dk_133 (dk_at dksX0_copiesIn_0 8 rfl rfl)
theorem dX0_copiesIn_9 : decode cX0_copiesIn 9 = .ok (.lastore, 1) := dk_80 (dk_at dksX0_copiesIn_0 9 rfl rfl)
theorem dX0_copiesIn_10 : decode cX0_copiesIn 10 = .ok (.goto 11, 3) := dk_167 0 11 (dk_at dksX0_copiesIn_0 10 rfl rfl)
theorem dX0_copiesIn_13 : decode cX0_copiesIn 13 = .ok (.astore 4, 2) := dk_58 4 (dk_at dksX0_copiesIn_0 13 rfl rfl)
theorem dX0_copiesIn_15 : decode cX0_copiesIn 15 = .ok (.iconst 1, 1) := dk_4 (dk_at dksX0_copiesIn_0 15 rfl rfl)
theorem dX0_copiesIn_16 : decode cX0_copiesIn 16 = .ok (.ireturn, 1) := dk_172 (dk_at dksX0_copiesIn_0 16 rfl rfl)
theorem dX0_copiesIn_17 : decode cX0_copiesIn 17 = .ok (.astore 4, 2) := dk_58 4 (dk_at dksX0_copiesIn_0 17 rfl rfl)
theorem dX0_copiesIn_19 : decode cX0_copiesIn 19 = .ok (.iconst 2, 1) := dk_5 (dk_at dksX0_copiesIn_0 19 rfl rfl)
theorem dX0_copiesIn_20 : decode cX0_copiesIn 20 = .ok (.ireturn, 1) := dk_172 (dk_at dksX0_copiesIn_0 20 rfl rfl)
theorem dX0_copiesIn_21 : decode cX0_copiesIn 21 = .ok (.iconst 0, 1) := dk_3 (dk_at dksX0_copiesIn_0 21 rfl rfl)
theorem dX0_copiesIn_22 : decode cX0_copiesIn 22 = .ok (.ireturn, 1) := dk_172 (dk_at dksX0_copiesIn_0 22 rfl rfl)
abbrev cX0_rightIf : ByteArray := method_34_code
def yX0_rightIf : MethodName := ⟨RX0, "rightIf", "(LVotingHuts;IIII[J)I"⟩
def dkwX0_rightIf_1 : List UInt8 := [172, 58, 6, 6, 172, 3, 172]
abbrev dktX0_rightIf_1 : List UInt8 := dkwX0_rightIf_1 ++ []
def dkwX0_rightIf_0 : List UInt8 := [25, 5, 3, 42, 27, 28, 29, 21, 4, 182, 0, 115, 133, 80, 167, 0, 15, 58, 6, 4, 172, 58, 6, 5]
abbrev dktX0_rightIf_0 : List UInt8 := dkwX0_rightIf_0 ++ dktX0_rightIf_1
theorem dksX0_rightIf_0 : cX0_rightIf.data.toList.drop 0 = dktX0_rightIf_0 := by decide +kernel
theorem dksX0_rightIf_1 : cX0_rightIf.data.toList.drop 24 = dktX0_rightIf_1 := dk_seg dksX0_rightIf_0 24 rfl rfl
theorem dX0_rightIf_0 : decode cX0_rightIf 0 = .ok (.aload 5, 2) := dk_25 5 (dk_at dksX0_rightIf_0 0 rfl rfl)
theorem dX0_rightIf_2 : decode cX0_rightIf 2 = .ok (.iconst 0, 1) := dk_3 (dk_at dksX0_rightIf_0 2 rfl rfl)
theorem dX0_rightIf_3 : decode cX0_rightIf 3 = .ok (.aload_n 0, 1) := dk_42 (dk_at dksX0_rightIf_0 3 rfl rfl)
theorem dX0_rightIf_4 : decode cX0_rightIf 4 = .ok (.iload_n 1, 1) := dk_27 (dk_at dksX0_rightIf_0 4 rfl rfl)
theorem dX0_rightIf_5 : decode cX0_rightIf 5 = .ok (.iload_n 2, 1) := dk_28 (dk_at dksX0_rightIf_0 5 rfl rfl)
theorem dX0_rightIf_6 : decode cX0_rightIf 6 = .ok (.iload_n 3, 1) := dk_29 (dk_at dksX0_rightIf_0 6 rfl rfl)
theorem dX0_rightIf_7 : decode cX0_rightIf 7 = .ok (.iload 4, 2) := dk_21 4 (dk_at dksX0_rightIf_0 7 rfl rfl)
theorem dX0_rightIf_9 : decode cX0_rightIf 9 = .ok (.invokevirtual 115, 3) := dk_182 0 115 (dk_at dksX0_rightIf_0 9 rfl rfl)
theorem dX0_rightIf_12 : decode cX0_rightIf 12 = .ok (.i2l, 1) := dk_133 (dk_at dksX0_rightIf_0 12 rfl rfl)
theorem dX0_rightIf_13 : decode cX0_rightIf 13 = .ok (.lastore, 1) := dk_80 (dk_at dksX0_rightIf_0 13 rfl rfl)
theorem dX0_rightIf_14 : decode cX0_rightIf 14 = .ok (.goto 15, 3) := dk_167 0 15 (dk_at dksX0_rightIf_0 14 rfl rfl)
theorem dX0_rightIf_17 : decode cX0_rightIf 17 = .ok (.astore 6, 2) := dk_58 6 (dk_at dksX0_rightIf_0 17 rfl rfl)
theorem dX0_rightIf_19 : decode cX0_rightIf 19 = .ok (.iconst 1, 1) := dk_4 (dk_at dksX0_rightIf_0 19 rfl rfl)
theorem dX0_rightIf_20 : decode cX0_rightIf 20 = .ok (.ireturn, 1) := dk_172 (dk_at dksX0_rightIf_0 20 rfl rfl)
theorem dX0_rightIf_21 : decode cX0_rightIf 21 = .ok (.astore 6, 2) := dk_58 6 (dk_at dksX0_rightIf_0 21 rfl rfl)
theorem dX0_rightIf_23 : decode cX0_rightIf 23 = .ok (.iconst 2, 1) := dk_5 (dk_at dksX0_rightIf_0 23 rfl rfl)
theorem dX0_rightIf_24 : decode cX0_rightIf 24 = .ok (.ireturn, 1) := dk_172 (dk_at dksX0_rightIf_1 0 rfl rfl)
theorem dX0_rightIf_25 : decode cX0_rightIf 25 = .ok (.astore 6, 2) := dk_58 6 (dk_at dksX0_rightIf_1 1 rfl rfl)
theorem dX0_rightIf_27 : decode cX0_rightIf 27 = .ok (.iconst 3, 1) := dk_6 (dk_at dksX0_rightIf_1 3 rfl rfl)
theorem dX0_rightIf_28 : decode cX0_rightIf 28 = .ok (.ireturn, 1) := dk_172 (dk_at dksX0_rightIf_1 4 rfl rfl)
theorem dX0_rightIf_29 : decode cX0_rightIf 29 = .ok (.iconst 0, 1) := dk_3 (dk_at dksX0_rightIf_1 5 rfl rfl)
theorem dX0_rightIf_30 : decode cX0_rightIf 30 = .ok (.ireturn, 1) := dk_172 (dk_at dksX0_rightIf_1 6 rfl rfl)
abbrev cX0_needless : ByteArray := method_35_code
def yX0_needless : MethodName := ⟨RX0, "needless", "(LVotingHuts;II[J)I"⟩
def dkwX0_needless_1 : List UInt8 := [58, 4, 5, 172, 3, 172]
abbrev dktX0_needless_1 : List UInt8 := dkwX0_needless_1 ++ []
def dkwX0_needless_0 : List UInt8 := [45, 3, 42, 27, 28, 182, 0, 118, 153, 0, 7, 10, 167, 0, 4, 9, 80, 167, 0, 11, 58, 4, 4, 172]
abbrev dktX0_needless_0 : List UInt8 := dkwX0_needless_0 ++ dktX0_needless_1
theorem dksX0_needless_0 : cX0_needless.data.toList.drop 0 = dktX0_needless_0 := by decide +kernel
theorem dksX0_needless_1 : cX0_needless.data.toList.drop 24 = dktX0_needless_1 := dk_seg dksX0_needless_0 24 rfl rfl
theorem dX0_needless_0 : decode cX0_needless 0 = .ok (.aload_n 3, 1) := dk_45 (dk_at dksX0_needless_0 0 rfl rfl)
theorem dX0_needless_1 : decode cX0_needless 1 = .ok (.iconst 0, 1) := dk_3 (dk_at dksX0_needless_0 1 rfl rfl)
theorem dX0_needless_2 : decode cX0_needless 2 = .ok (.aload_n 0, 1) := dk_42 (dk_at dksX0_needless_0 2 rfl rfl)
theorem dX0_needless_3 : decode cX0_needless 3 = .ok (.iload_n 1, 1) := dk_27 (dk_at dksX0_needless_0 3 rfl rfl)
theorem dX0_needless_4 : decode cX0_needless 4 = .ok (.iload_n 2, 1) := dk_28 (dk_at dksX0_needless_0 4 rfl rfl)
theorem dX0_needless_5 : decode cX0_needless 5 = .ok (.invokevirtual 118, 3) := dk_182 0 118 (dk_at dksX0_needless_0 5 rfl rfl)
theorem dX0_needless_8 : decode cX0_needless 8 = .ok (.ifCond .eq 7, 3) := dk_153 0 7 (dk_at dksX0_needless_0 8 rfl rfl)
theorem dX0_needless_11 : decode cX0_needless 11 = .ok (.lconst 1, 1) := dk_10 (dk_at dksX0_needless_0 11 rfl rfl)
theorem dX0_needless_12 : decode cX0_needless 12 = .ok (.goto 4, 3) := dk_167 0 4 (dk_at dksX0_needless_0 12 rfl rfl)
theorem dX0_needless_15 : decode cX0_needless 15 = .ok (.lconst 0, 1) := dk_9 (dk_at dksX0_needless_0 15 rfl rfl)
theorem dX0_needless_16 : decode cX0_needless 16 = .ok (.lastore, 1) := dk_80 (dk_at dksX0_needless_0 16 rfl rfl)
theorem dX0_needless_17 : decode cX0_needless 17 = .ok (.goto 11, 3) := dk_167 0 11 (dk_at dksX0_needless_0 17 rfl rfl)
theorem dX0_needless_20 : decode cX0_needless 20 = .ok (.astore 4, 2) := dk_58 4 (dk_at dksX0_needless_0 20 rfl rfl)
theorem dX0_needless_22 : decode cX0_needless 22 = .ok (.iconst 1, 1) := dk_4 (dk_at dksX0_needless_0 22 rfl rfl)
theorem dX0_needless_23 : decode cX0_needless 23 = .ok (.ireturn, 1) := dk_172 (dk_at dksX0_needless_0 23 rfl rfl)
theorem dX0_needless_24 : decode cX0_needless 24 = .ok (.astore 4, 2) := dk_58 4 (dk_at dksX0_needless_1 0 rfl rfl)
theorem dX0_needless_26 : decode cX0_needless 26 = .ok (.iconst 2, 1) := dk_5 (dk_at dksX0_needless_1 2 rfl rfl)
theorem dX0_needless_27 : decode cX0_needless 27 = .ok (.ireturn, 1) := dk_172 (dk_at dksX0_needless_1 3 rfl rfl)
theorem dX0_needless_28 : decode cX0_needless 28 = .ok (.iconst 0, 1) := dk_3 (dk_at dksX0_needless_1 4 rfl rfl)
theorem dX0_needless_29 : decode cX0_needless 29 = .ok (.ireturn, 1) := dk_172 (dk_at dksX0_needless_1 5 rfl rfl)
abbrev cX0_bestCut : ByteArray := method_36_code
def yX0_bestCut : MethodName := ⟨RX0, "bestCut", "(LVotingHuts;I[J)I"⟩
def dkwX0_bestCut_0 : List UInt8 := [44, 3, 42, 27, 182, 0, 122, 133, 80, 167, 0, 9, 78, 4, 172, 78, 5, 172, 3, 172]
abbrev dktX0_bestCut_0 : List UInt8 := dkwX0_bestCut_0 ++ []
theorem dksX0_bestCut_0 : cX0_bestCut.data.toList.drop 0 = dktX0_bestCut_0 := by decide +kernel
theorem dX0_bestCut_0 : decode cX0_bestCut 0 = .ok (.aload_n 2, 1) := dk_44 (dk_at dksX0_bestCut_0 0 rfl rfl)
theorem dX0_bestCut_1 : decode cX0_bestCut 1 = .ok (.iconst 0, 1) := dk_3 (dk_at dksX0_bestCut_0 1 rfl rfl)
theorem dX0_bestCut_2 : decode cX0_bestCut 2 = .ok (.aload_n 0, 1) := dk_42 (dk_at dksX0_bestCut_0 2 rfl rfl)
theorem dX0_bestCut_3 : decode cX0_bestCut 3 = .ok (.iload_n 1, 1) := dk_27 (dk_at dksX0_bestCut_0 3 rfl rfl)
theorem dX0_bestCut_4 : decode cX0_bestCut 4 = .ok (.invokevirtual 122, 3) := dk_182 0 122 (dk_at dksX0_bestCut_0 4 rfl rfl)
theorem dX0_bestCut_7 : decode cX0_bestCut 7 = .ok (.i2l, 1) := dk_133 (dk_at dksX0_bestCut_0 7 rfl rfl)
theorem dX0_bestCut_8 : decode cX0_bestCut 8 = .ok (.lastore, 1) := dk_80 (dk_at dksX0_bestCut_0 8 rfl rfl)
theorem dX0_bestCut_9 : decode cX0_bestCut 9 = .ok (.goto 9, 3) := dk_167 0 9 (dk_at dksX0_bestCut_0 9 rfl rfl)
theorem dX0_bestCut_12 : decode cX0_bestCut 12 = .ok (.astore_n 3, 1) := dk_78 (dk_at dksX0_bestCut_0 12 rfl rfl)
theorem dX0_bestCut_13 : decode cX0_bestCut 13 = .ok (.iconst 1, 1) := dk_4 (dk_at dksX0_bestCut_0 13 rfl rfl)
theorem dX0_bestCut_14 : decode cX0_bestCut 14 = .ok (.ireturn, 1) := dk_172 (dk_at dksX0_bestCut_0 14 rfl rfl)
theorem dX0_bestCut_15 : decode cX0_bestCut 15 = .ok (.astore_n 3, 1) := dk_78 (dk_at dksX0_bestCut_0 15 rfl rfl)
theorem dX0_bestCut_16 : decode cX0_bestCut 16 = .ok (.iconst 2, 1) := dk_5 (dk_at dksX0_bestCut_0 16 rfl rfl)
theorem dX0_bestCut_17 : decode cX0_bestCut 17 = .ok (.ireturn, 1) := dk_172 (dk_at dksX0_bestCut_0 17 rfl rfl)
theorem dX0_bestCut_18 : decode cX0_bestCut 18 = .ok (.iconst 0, 1) := dk_3 (dk_at dksX0_bestCut_0 18 rfl rfl)
theorem dX0_bestCut_19 : decode cX0_bestCut 19 = .ok (.ireturn, 1) := dk_172 (dk_at dksX0_bestCut_0 19 rfl rfl)
abbrev cX0_needed : ByteArray := method_37_code
def yX0_needed : MethodName := ⟨RX0, "needed", "(LVotingHuts;I[J)I"⟩
def dkwX0_needed_0 : List UInt8 := [44, 3, 42, 27, 182, 0, 125, 133, 80, 167, 0, 9, 78, 4, 172, 78, 5, 172, 3, 172]
abbrev dktX0_needed_0 : List UInt8 := dkwX0_needed_0 ++ []
theorem dksX0_needed_0 : cX0_needed.data.toList.drop 0 = dktX0_needed_0 := by decide +kernel
theorem dX0_needed_0 : decode cX0_needed 0 = .ok (.aload_n 2, 1) := dk_44 (dk_at dksX0_needed_0 0 rfl rfl)
theorem dX0_needed_1 : decode cX0_needed 1 = .ok (.iconst 0, 1) := dk_3 (dk_at dksX0_needed_0 1 rfl rfl)
theorem dX0_needed_2 : decode cX0_needed 2 = .ok (.aload_n 0, 1) := dk_42 (dk_at dksX0_needed_0 2 rfl rfl)
theorem dX0_needed_3 : decode cX0_needed 3 = .ok (.iload_n 1, 1) := dk_27 (dk_at dksX0_needed_0 3 rfl rfl)
theorem dX0_needed_4 : decode cX0_needed 4 = .ok (.invokevirtual 125, 3) := dk_182 0 125 (dk_at dksX0_needed_0 4 rfl rfl)
theorem dX0_needed_7 : decode cX0_needed 7 = .ok (.i2l, 1) := dk_133 (dk_at dksX0_needed_0 7 rfl rfl)
theorem dX0_needed_8 : decode cX0_needed 8 = .ok (.lastore, 1) := dk_80 (dk_at dksX0_needed_0 8 rfl rfl)
theorem dX0_needed_9 : decode cX0_needed 9 = .ok (.goto 9, 3) := dk_167 0 9 (dk_at dksX0_needed_0 9 rfl rfl)
theorem dX0_needed_12 : decode cX0_needed 12 = .ok (.astore_n 3, 1) := dk_78 (dk_at dksX0_needed_0 12 rfl rfl)
theorem dX0_needed_13 : decode cX0_needed 13 = .ok (.iconst 1, 1) := dk_4 (dk_at dksX0_needed_0 13 rfl rfl)
theorem dX0_needed_14 : decode cX0_needed 14 = .ok (.ireturn, 1) := dk_172 (dk_at dksX0_needed_0 14 rfl rfl)
theorem dX0_needed_15 : decode cX0_needed 15 = .ok (.astore_n 3, 1) := dk_78 (dk_at dksX0_needed_0 15 rfl rfl)
theorem dX0_needed_16 : decode cX0_needed 16 = .ok (.iconst 2, 1) := dk_5 (dk_at dksX0_needed_0 16 rfl rfl)
theorem dX0_needed_17 : decode cX0_needed 17 = .ok (.ireturn, 1) := dk_172 (dk_at dksX0_needed_0 17 rfl rfl)
theorem dX0_needed_18 : decode cX0_needed 18 = .ok (.iconst 0, 1) := dk_3 (dk_at dksX0_needed_0 18 rfl rfl)
theorem dX0_needed_19 : decode cX0_needed 19 = .ok (.ireturn, 1) := dk_172 (dk_at dksX0_needed_0 19 rfl rfl)
abbrev cX0_bestAsks : ByteArray := method_38_code
def yX0_bestAsks : MethodName := ⟨RX0, "bestAsks", "(LVotingHuts;I[J)I"⟩
def dkwX0_bestAsks_0 : List UInt8 := [44, 3, 42, 27, 182, 0, 128, 133, 80, 167, 0, 9, 78, 4, 172, 78, 5, 172, 3, 172]
abbrev dktX0_bestAsks_0 : List UInt8 := dkwX0_bestAsks_0 ++ []
theorem dksX0_bestAsks_0 : cX0_bestAsks.data.toList.drop 0 = dktX0_bestAsks_0 := by decide +kernel
theorem dX0_bestAsks_0 : decode cX0_bestAsks 0 = .ok (.aload_n 2, 1) := dk_44 (dk_at dksX0_bestAsks_0 0 rfl rfl)
theorem dX0_bestAsks_1 : decode cX0_bestAsks 1 = .ok (.iconst 0, 1) := dk_3 (dk_at dksX0_bestAsks_0 1 rfl rfl)
theorem dX0_bestAsks_2 : decode cX0_bestAsks 2 = .ok (.aload_n 0, 1) := dk_42 (dk_at dksX0_bestAsks_0 2 rfl rfl)
theorem dX0_bestAsks_3 : decode cX0_bestAsks 3 = .ok (.iload_n 1, 1) := dk_27 (dk_at dksX0_bestAsks_0 3 rfl rfl)
theorem dX0_bestAsks_4 : decode cX0_bestAsks 4 = .ok (.invokevirtual 128, 3) := dk_182 0 128 (dk_at dksX0_bestAsks_0 4 rfl rfl)
theorem dX0_bestAsks_7 : decode cX0_bestAsks 7 = .ok (.i2l, 1) := dk_133 (dk_at dksX0_bestAsks_0 7 rfl rfl)
theorem dX0_bestAsks_8 : decode cX0_bestAsks 8 = .ok (.lastore, 1) := dk_80 (dk_at dksX0_bestAsks_0 8 rfl rfl)
theorem dX0_bestAsks_9 : decode cX0_bestAsks 9 = .ok (.goto 9, 3) := dk_167 0 9 (dk_at dksX0_bestAsks_0 9 rfl rfl)
theorem dX0_bestAsks_12 : decode cX0_bestAsks 12 = .ok (.astore_n 3, 1) := dk_78 (dk_at dksX0_bestAsks_0 12 rfl rfl)
theorem dX0_bestAsks_13 : decode cX0_bestAsks 13 = .ok (.iconst 1, 1) := dk_4 (dk_at dksX0_bestAsks_0 13 rfl rfl)
theorem dX0_bestAsks_14 : decode cX0_bestAsks 14 = .ok (.ireturn, 1) := dk_172 (dk_at dksX0_bestAsks_0 14 rfl rfl)
theorem dX0_bestAsks_15 : decode cX0_bestAsks 15 = .ok (.astore_n 3, 1) := dk_78 (dk_at dksX0_bestAsks_0 15 rfl rfl)
theorem dX0_bestAsks_16 : decode cX0_bestAsks 16 = .ok (.iconst 2, 1) := dk_5 (dk_at dksX0_bestAsks_0 16 rfl rfl)
theorem dX0_bestAsks_17 : decode cX0_bestAsks 17 = .ok (.ireturn, 1) := dk_172 (dk_at dksX0_bestAsks_0 17 rfl rfl)
theorem dX0_bestAsks_18 : decode cX0_bestAsks 18 = .ok (.iconst 0, 1) := dk_3 (dk_at dksX0_bestAsks_0 18 rfl rfl)
theorem dX0_bestAsks_19 : decode cX0_bestAsks 19 = .ok (.ireturn, 1) := dk_172 (dk_at dksX0_bestAsks_0 19 rfl rfl)
abbrev cX0_bestStart : ByteArray := method_39_code
def yX0_bestStart : MethodName := ⟨RX0, "bestStart", "(LVotingHuts;III[J)I"⟩
def dkwX0_bestStart_1 : List UInt8 := [172]
abbrev dktX0_bestStart_1 : List UInt8 := dkwX0_bestStart_1 ++ []
def dkwX0_bestStart_0 : List UInt8 := [25, 4, 3, 42, 27, 28, 29, 182, 0, 131, 133, 80, 167, 0, 11, 58, 5, 4, 172, 58, 5, 5, 172, 3]
abbrev dktX0_bestStart_0 : List UInt8 := dkwX0_bestStart_0 ++ dktX0_bestStart_1
theorem dksX0_bestStart_0 : cX0_bestStart.data.toList.drop 0 = dktX0_bestStart_0 := by decide +kernel
theorem dksX0_bestStart_1 : cX0_bestStart.data.toList.drop 24 = dktX0_bestStart_1 := dk_seg dksX0_bestStart_0 24 rfl rfl
theorem dX0_bestStart_0 : decode cX0_bestStart 0 = .ok (.aload 4, 2) := dk_25 4 (dk_at dksX0_bestStart_0 0 rfl rfl)
theorem dX0_bestStart_2 : decode cX0_bestStart 2 = .ok (.iconst 0, 1) := dk_3 (dk_at dksX0_bestStart_0 2 rfl rfl)
theorem dX0_bestStart_3 : decode cX0_bestStart 3 = .ok (.aload_n 0, 1) := dk_42 (dk_at dksX0_bestStart_0 3 rfl rfl)
theorem dX0_bestStart_4 : decode cX0_bestStart 4 = .ok (.iload_n 1, 1) := dk_27 (dk_at dksX0_bestStart_0 4 rfl rfl)
theorem dX0_bestStart_5 : decode cX0_bestStart 5 = .ok (.iload_n 2, 1) := dk_28 (dk_at dksX0_bestStart_0 5 rfl rfl)
theorem dX0_bestStart_6 : decode cX0_bestStart 6 = .ok (.iload_n 3, 1) := dk_29 (dk_at dksX0_bestStart_0 6 rfl rfl)
theorem dX0_bestStart_7 : decode cX0_bestStart 7 = .ok (.invokevirtual 131, 3) := dk_182 0 131 (dk_at dksX0_bestStart_0 7 rfl rfl)
theorem dX0_bestStart_10 : decode cX0_bestStart 10 = .ok (.i2l, 1) := dk_133 (dk_at dksX0_bestStart_0 10 rfl rfl)
theorem dX0_bestStart_11 : decode cX0_bestStart 11 = .ok (.lastore, 1) := dk_80 (dk_at dksX0_bestStart_0 11 rfl rfl)
theorem dX0_bestStart_12 : decode cX0_bestStart 12 = .ok (.goto 11, 3) := dk_167 0 11 (dk_at dksX0_bestStart_0 12 rfl rfl)
theorem dX0_bestStart_15 : decode cX0_bestStart 15 = .ok (.astore 5, 2) := dk_58 5 (dk_at dksX0_bestStart_0 15 rfl rfl)
theorem dX0_bestStart_17 : decode cX0_bestStart 17 = .ok (.iconst 1, 1) := dk_4 (dk_at dksX0_bestStart_0 17 rfl rfl)
theorem dX0_bestStart_18 : decode cX0_bestStart 18 = .ok (.ireturn, 1) := dk_172 (dk_at dksX0_bestStart_0 18 rfl rfl)
theorem dX0_bestStart_19 : decode cX0_bestStart 19 = .ok (.astore 5, 2) := dk_58 5 (dk_at dksX0_bestStart_0 19 rfl rfl)
theorem dX0_bestStart_21 : decode cX0_bestStart 21 = .ok (.iconst 2, 1) := dk_5 (dk_at dksX0_bestStart_0 21 rfl rfl)
theorem dX0_bestStart_22 : decode cX0_bestStart 22 = .ok (.ireturn, 1) := dk_172 (dk_at dksX0_bestStart_0 22 rfl rfl)
theorem dX0_bestStart_23 : decode cX0_bestStart 23 = .ok (.iconst 0, 1) := dk_3 (dk_at dksX0_bestStart_0 23 rfl rfl)
theorem dX0_bestStart_24 : decode cX0_bestStart 24 = .ok (.ireturn, 1) := dk_172 (dk_at dksX0_bestStart_1 0 rfl rfl)
abbrev cX0_leastStorm : ByteArray := method_40_code
def yX0_leastStorm : MethodName := ⟨RX0, "leastStorm", "(LVotingHuts;II[J)I"⟩
def dkwX0_leastStorm_0 : List UInt8 := [45, 3, 42, 27, 28, 182, 0, 134, 133, 80, 167, 0, 11, 58, 4, 4, 172, 58, 4, 5, 172, 3, 172]
abbrev dktX0_leastStorm_0 : List UInt8 := dkwX0_leastStorm_0 ++ []
theorem dksX0_leastStorm_0 : cX0_leastStorm.data.toList.drop 0 = dktX0_leastStorm_0 := by decide +kernel
theorem dX0_leastStorm_0 : decode cX0_leastStorm 0 = .ok (.aload_n 3, 1) := dk_45 (dk_at dksX0_leastStorm_0 0 rfl rfl)
theorem dX0_leastStorm_1 : decode cX0_leastStorm 1 = .ok (.iconst 0, 1) := dk_3 (dk_at dksX0_leastStorm_0 1 rfl rfl)
theorem dX0_leastStorm_2 : decode cX0_leastStorm 2 = .ok (.aload_n 0, 1) := dk_42 (dk_at dksX0_leastStorm_0 2 rfl rfl)
theorem dX0_leastStorm_3 : decode cX0_leastStorm 3 = .ok (.iload_n 1, 1) := dk_27 (dk_at dksX0_leastStorm_0 3 rfl rfl)
theorem dX0_leastStorm_4 : decode cX0_leastStorm 4 = .ok (.iload_n 2, 1) := dk_28 (dk_at dksX0_leastStorm_0 4 rfl rfl)
theorem dX0_leastStorm_5 : decode cX0_leastStorm 5 = .ok (.invokevirtual 134, 3) := dk_182 0 134 (dk_at dksX0_leastStorm_0 5 rfl rfl)
theorem dX0_leastStorm_8 : decode cX0_leastStorm 8 = .ok (.i2l, 1) := dk_133 (dk_at dksX0_leastStorm_0 8 rfl rfl)
theorem dX0_leastStorm_9 : decode cX0_leastStorm 9 = .ok (.lastore, 1) := dk_80 (dk_at dksX0_leastStorm_0 9 rfl rfl)
theorem dX0_leastStorm_10 : decode cX0_leastStorm 10 = .ok (.goto 11, 3) := dk_167 0 11 (dk_at dksX0_leastStorm_0 10 rfl rfl)
theorem dX0_leastStorm_13 : decode cX0_leastStorm 13 = .ok (.astore 4, 2) := dk_58 4 (dk_at dksX0_leastStorm_0 13 rfl rfl)
theorem dX0_leastStorm_15 : decode cX0_leastStorm 15 = .ok (.iconst 1, 1) := dk_4 (dk_at dksX0_leastStorm_0 15 rfl rfl)
theorem dX0_leastStorm_16 : decode cX0_leastStorm 16 = .ok (.ireturn, 1) := dk_172 (dk_at dksX0_leastStorm_0 16 rfl rfl)
theorem dX0_leastStorm_17 : decode cX0_leastStorm 17 = .ok (.astore 4, 2) := dk_58 4 (dk_at dksX0_leastStorm_0 17 rfl rfl)
theorem dX0_leastStorm_19 : decode cX0_leastStorm 19 = .ok (.iconst 2, 1) := dk_5 (dk_at dksX0_leastStorm_0 19 rfl rfl)
theorem dX0_leastStorm_20 : decode cX0_leastStorm 20 = .ok (.ireturn, 1) := dk_172 (dk_at dksX0_leastStorm_0 20 rfl rfl)
theorem dX0_leastStorm_21 : decode cX0_leastStorm 21 = .ok (.iconst 0, 1) := dk_3 (dk_at dksX0_leastStorm_0 21 rfl rfl)
theorem dX0_leastStorm_22 : decode cX0_leastStorm 22 = .ok (.ireturn, 1) := dk_172 (dk_at dksX0_leastStorm_0 22 rfl rfl)
abbrev cX0_share : ByteArray := method_41_code
def yX0_share : MethodName := ⟨RX0, "share", "(LVotingHuts;[D)I"⟩
def dkwX0_share_0 : List UInt8 := [43, 3, 42, 182, 0, 137, 141, 82, 167, 0, 6, 77, 4, 172, 3, 172]
abbrev dktX0_share_0 : List UInt8 := dkwX0_share_0 ++ []
theorem dksX0_share_0 : cX0_share.data.toList.drop 0 = dktX0_share_0 := by decide +kernel
theorem dX0_share_0 : decode cX0_share 0 = .ok (.aload_n 1, 1) := dk_43 (dk_at dksX0_share_0 0 rfl rfl)
theorem dX0_share_1 : decode cX0_share 1 = .ok (.iconst 0, 1) := dk_3 (dk_at dksX0_share_0 1 rfl rfl)
theorem dX0_share_2 : decode cX0_share 2 = .ok (.aload_n 0, 1) := dk_42 (dk_at dksX0_share_0 2 rfl rfl)
theorem dX0_share_3 : decode cX0_share 3 = .ok (.invokevirtual 137, 3) := dk_182 0 137 (dk_at dksX0_share_0 3 rfl rfl)
theorem dX0_share_6 : decode cX0_share 6 = .ok (.f2d, 1) := dk_141 (dk_at dksX0_share_0 6 rfl rfl)
theorem dX0_share_7 : decode cX0_share 7 = .ok (.dastore, 1) := dk_82 (dk_at dksX0_share_0 7 rfl rfl)
theorem dX0_share_8 : decode cX0_share 8 = .ok (.goto 6, 3) := dk_167 0 6 (dk_at dksX0_share_0 8 rfl rfl)
theorem dX0_share_11 : decode cX0_share 11 = .ok (.astore_n 2, 1) := dk_77 (dk_at dksX0_share_0 11 rfl rfl)
theorem dX0_share_12 : decode cX0_share 12 = .ok (.iconst 1, 1) := dk_4 (dk_at dksX0_share_0 12 rfl rfl)
theorem dX0_share_13 : decode cX0_share 13 = .ok (.ireturn, 1) := dk_172 (dk_at dksX0_share_0 13 rfl rfl)
theorem dX0_share_14 : decode cX0_share 14 = .ok (.iconst 0, 1) := dk_3 (dk_at dksX0_share_0 14 rfl rfl)
theorem dX0_share_15 : decode cX0_share 15 = .ok (.ireturn, 1) := dk_172 (dk_at dksX0_share_0 15 rfl rfl)
abbrev cX0_meanHours : ByteArray := method_42_code
def yX0_meanHours : MethodName := ⟨RX0, "meanHours", "(LVotingHuts;[D)I"⟩
def dkwX0_meanHours_0 : List UInt8 := [43, 3, 42, 182, 0, 141, 82, 167, 0, 6, 77, 4, 172, 3, 172]
abbrev dktX0_meanHours_0 : List UInt8 := dkwX0_meanHours_0 ++ []
theorem dksX0_meanHours_0 : cX0_meanHours.data.toList.drop 0 = dktX0_meanHours_0 := by decide +kernel
theorem dX0_meanHours_0 : decode cX0_meanHours 0 = .ok (.aload_n 1, 1) := dk_43 (dk_at dksX0_meanHours_0 0 rfl rfl)
theorem dX0_meanHours_1 : decode cX0_meanHours 1 = .ok (.iconst 0, 1) := dk_3 (dk_at dksX0_meanHours_0 1 rfl rfl)
theorem dX0_meanHours_2 : decode cX0_meanHours 2 = .ok (.aload_n 0, 1) := dk_42 (dk_at dksX0_meanHours_0 2 rfl rfl)
theorem dX0_meanHours_3 : decode cX0_meanHours 3 = .ok (.invokevirtual 141, 3) := dk_182 0 141 (dk_at dksX0_meanHours_0 3 rfl rfl)
theorem dX0_meanHours_6 : decode cX0_meanHours 6 = .ok (.dastore, 1) := dk_82 (dk_at dksX0_meanHours_0 6 rfl rfl)
theorem dX0_meanHours_7 : decode cX0_meanHours 7 = .ok (.goto 6, 3) := dk_167 0 6 (dk_at dksX0_meanHours_0 7 rfl rfl)
theorem dX0_meanHours_10 : decode cX0_meanHours 10 = .ok (.astore_n 2, 1) := dk_77 (dk_at dksX0_meanHours_0 10 rfl rfl)
theorem dX0_meanHours_11 : decode cX0_meanHours 11 = .ok (.iconst 1, 1) := dk_4 (dk_at dksX0_meanHours_0 11 rfl rfl)
theorem dX0_meanHours_12 : decode cX0_meanHours 12 = .ok (.ireturn, 1) := dk_172 (dk_at dksX0_meanHours_0 12 rfl rfl)
theorem dX0_meanHours_13 : decode cX0_meanHours 13 = .ok (.iconst 0, 1) := dk_3 (dk_at dksX0_meanHours_0 13 rfl rfl)
theorem dX0_meanHours_14 : decode cX0_meanHours 14 = .ok (.ireturn, 1) := dk_172 (dk_at dksX0_meanHours_0 14 rfl rfl)
abbrev cX0_writeMessage : ByteArray := method_43_code
def yX0_writeMessage : MethodName := ⟨RX0, "writeMessage", "(LVotingHuts;I[J)I"⟩
def dkwX0_writeMessage_0 : List UInt8 := [44, 3, 42, 27, 182, 0, 145, 133, 80, 167, 0, 9, 78, 4, 172, 78, 5, 172, 3, 172]
abbrev dktX0_writeMessage_0 : List UInt8 := dkwX0_writeMessage_0 ++ []
theorem dksX0_writeMessage_0 : cX0_writeMessage.data.toList.drop 0 = dktX0_writeMessage_0 := by decide +kernel
theorem dX0_writeMessage_0 : decode cX0_writeMessage 0 = .ok (.aload_n 2, 1) := dk_44 (dk_at dksX0_writeMessage_0 0 rfl rfl)
theorem dX0_writeMessage_1 : decode cX0_writeMessage 1 = .ok (.iconst 0, 1) := dk_3 (dk_at dksX0_writeMessage_0 1 rfl rfl)
theorem dX0_writeMessage_2 : decode cX0_writeMessage 2 = .ok (.aload_n 0, 1) := dk_42 (dk_at dksX0_writeMessage_0 2 rfl rfl)
theorem dX0_writeMessage_3 : decode cX0_writeMessage 3 = .ok (.iload_n 1, 1) := dk_27 (dk_at dksX0_writeMessage_0 3 rfl rfl)
theorem dX0_writeMessage_4 : decode cX0_writeMessage 4 = .ok (.invokevirtual 145, 3) := dk_182 0 145 (dk_at dksX0_writeMessage_0 4 rfl rfl)
theorem dX0_writeMessage_7 : decode cX0_writeMessage 7 = .ok (.i2l, 1) := dk_133 (dk_at dksX0_writeMessage_0 7 rfl rfl)
theorem dX0_writeMessage_8 : decode cX0_writeMessage 8 = .ok (.lastore, 1) := dk_80 (dk_at dksX0_writeMessage_0 8 rfl rfl)
theorem dX0_writeMessage_9 : decode cX0_writeMessage 9 = .ok (.goto 9, 3) := dk_167 0 9 (dk_at dksX0_writeMessage_0 9 rfl rfl)
theorem dX0_writeMessage_12 : decode cX0_writeMessage 12 = .ok (.astore_n 3, 1) := dk_78 (dk_at dksX0_writeMessage_0 12 rfl rfl)
theorem dX0_writeMessage_13 : decode cX0_writeMessage 13 = .ok (.iconst 1, 1) := dk_4 (dk_at dksX0_writeMessage_0 13 rfl rfl)
theorem dX0_writeMessage_14 : decode cX0_writeMessage 14 = .ok (.ireturn, 1) := dk_172 (dk_at dksX0_writeMessage_0 14 rfl rfl)
theorem dX0_writeMessage_15 : decode cX0_writeMessage 15 = .ok (.astore_n 3, 1) := dk_78 (dk_at dksX0_writeMessage_0 15 rfl rfl)
theorem dX0_writeMessage_16 : decode cX0_writeMessage 16 = .ok (.iconst 2, 1) := dk_5 (dk_at dksX0_writeMessage_0 16 rfl rfl)
theorem dX0_writeMessage_17 : decode cX0_writeMessage 17 = .ok (.ireturn, 1) := dk_172 (dk_at dksX0_writeMessage_0 17 rfl rfl)
theorem dX0_writeMessage_18 : decode cX0_writeMessage 18 = .ok (.iconst 0, 1) := dk_3 (dk_at dksX0_writeMessage_0 18 rfl rfl)
theorem dX0_writeMessage_19 : decode cX0_writeMessage 19 = .ok (.ireturn, 1) := dk_172 (dk_at dksX0_writeMessage_0 19 rfl rfl)
abbrev cX0_writeBelieved : ByteArray := method_44_code
def yX0_writeBelieved : MethodName := ⟨RX0, "writeBelieved", "(LVotingHuts;I[J)I"⟩
def dkwX0_writeBelieved_0 : List UInt8 := [44, 3, 42, 27, 182, 0, 148, 133, 80, 167, 0, 9, 78, 4, 172, 78, 5, 172, 3, 172]
abbrev dktX0_writeBelieved_0 : List UInt8 := dkwX0_writeBelieved_0 ++ []
theorem dksX0_writeBelieved_0 : cX0_writeBelieved.data.toList.drop 0 = dktX0_writeBelieved_0 := by decide +kernel
theorem dX0_writeBelieved_0 : decode cX0_writeBelieved 0 = .ok (.aload_n 2, 1) := dk_44 (dk_at dksX0_writeBelieved_0 0 rfl rfl)
theorem dX0_writeBelieved_1 : decode cX0_writeBelieved 1 = .ok (.iconst 0, 1) := dk_3 (dk_at dksX0_writeBelieved_0 1 rfl rfl)
theorem dX0_writeBelieved_2 : decode cX0_writeBelieved 2 = .ok (.aload_n 0, 1) := dk_42 (dk_at dksX0_writeBelieved_0 2 rfl rfl)
theorem dX0_writeBelieved_3 : decode cX0_writeBelieved 3 = .ok (.iload_n 1, 1) := dk_27 (dk_at dksX0_writeBelieved_0 3 rfl rfl)
theorem dX0_writeBelieved_4 : decode cX0_writeBelieved 4 = .ok (.invokevirtual 148, 3) := dk_182 0 148 (dk_at dksX0_writeBelieved_0 4 rfl rfl)
theorem dX0_writeBelieved_7 : decode cX0_writeBelieved 7 = .ok (.i2l, 1) := dk_133 (dk_at dksX0_writeBelieved_0 7 rfl rfl)
theorem dX0_writeBelieved_8 : decode cX0_writeBelieved 8 = .ok (.lastore, 1) := dk_80 (dk_at dksX0_writeBelieved_0 8 rfl rfl)
theorem dX0_writeBelieved_9 : decode cX0_writeBelieved 9 = .ok (.goto 9, 3) := dk_167 0 9 (dk_at dksX0_writeBelieved_0 9 rfl rfl)
theorem dX0_writeBelieved_12 : decode cX0_writeBelieved 12 = .ok (.astore_n 3, 1) := dk_78 (dk_at dksX0_writeBelieved_0 12 rfl rfl)
theorem dX0_writeBelieved_13 : decode cX0_writeBelieved 13 = .ok (.iconst 1, 1) := dk_4 (dk_at dksX0_writeBelieved_0 13 rfl rfl)
theorem dX0_writeBelieved_14 : decode cX0_writeBelieved 14 = .ok (.ireturn, 1) := dk_172 (dk_at dksX0_writeBelieved_0 14 rfl rfl)
theorem dX0_writeBelieved_15 : decode cX0_writeBelieved 15 = .ok (.astore_n 3, 1) := dk_78 (dk_at dksX0_writeBelieved_0 15 rfl rfl)
theorem dX0_writeBelieved_16 : decode cX0_writeBelieved 16 = .ok (.iconst 2, 1) := dk_5 (dk_at dksX0_writeBelieved_0 16 rfl rfl)
theorem dX0_writeBelieved_17 : decode cX0_writeBelieved 17 = .ok (.ireturn, 1) := dk_172 (dk_at dksX0_writeBelieved_0 17 rfl rfl)
theorem dX0_writeBelieved_18 : decode cX0_writeBelieved 18 = .ok (.iconst 0, 1) := dk_3 (dk_at dksX0_writeBelieved_0 18 rfl rfl)
theorem dX0_writeBelieved_19 : decode cX0_writeBelieved 19 = .ok (.ireturn, 1) := dk_172 (dk_at dksX0_writeBelieved_0 19 rfl rfl)
abbrev cX0_writeWires : ByteArray := method_45_code
def yX0_writeWires : MethodName := ⟨RX0, "writeWires", "(LVotingHuts;I[J)I"⟩
def dkwX0_writeWires_0 : List UInt8 := [44, 3, 42, 27, 182, 0, 151, 133, 80, 167, 0, 9, 78, 4, 172, 78, 5, 172, 3, 172]
abbrev dktX0_writeWires_0 : List UInt8 := dkwX0_writeWires_0 ++ []
theorem dksX0_writeWires_0 : cX0_writeWires.data.toList.drop 0 = dktX0_writeWires_0 := by decide +kernel
theorem dX0_writeWires_0 : decode cX0_writeWires 0 = .ok (.aload_n 2, 1) := dk_44 (dk_at dksX0_writeWires_0 0 rfl rfl)
theorem dX0_writeWires_1 : decode cX0_writeWires 1 = .ok (.iconst 0, 1) := dk_3 (dk_at dksX0_writeWires_0 1 rfl rfl)
theorem dX0_writeWires_2 : decode cX0_writeWires 2 = .ok (.aload_n 0, 1) := dk_42 (dk_at dksX0_writeWires_0 2 rfl rfl)
theorem dX0_writeWires_3 : decode cX0_writeWires 3 = .ok (.iload_n 1, 1) := dk_27 (dk_at dksX0_writeWires_0 3 rfl rfl)
theorem dX0_writeWires_4 : decode cX0_writeWires 4 = .ok (.invokevirtual 151, 3) := dk_182 0 151 (dk_at dksX0_writeWires_0 4 rfl rfl)
theorem dX0_writeWires_7 : decode cX0_writeWires 7 = .ok (.i2l, 1) := dk_133 (dk_at dksX0_writeWires_0 7 rfl rfl)
theorem dX0_writeWires_8 : decode cX0_writeWires 8 = .ok (.lastore, 1) := dk_80 (dk_at dksX0_writeWires_0 8 rfl rfl)
theorem dX0_writeWires_9 : decode cX0_writeWires 9 = .ok (.goto 9, 3) := dk_167 0 9 (dk_at dksX0_writeWires_0 9 rfl rfl)
theorem dX0_writeWires_12 : decode cX0_writeWires 12 = .ok (.astore_n 3, 1) := dk_78 (dk_at dksX0_writeWires_0 12 rfl rfl)
theorem dX0_writeWires_13 : decode cX0_writeWires 13 = .ok (.iconst 1, 1) := dk_4 (dk_at dksX0_writeWires_0 13 rfl rfl)
theorem dX0_writeWires_14 : decode cX0_writeWires 14 = .ok (.ireturn, 1) := dk_172 (dk_at dksX0_writeWires_0 14 rfl rfl)
theorem dX0_writeWires_15 : decode cX0_writeWires 15 = .ok (.astore_n 3, 1) := dk_78 (dk_at dksX0_writeWires_0 15 rfl rfl)
theorem dX0_writeWires_16 : decode cX0_writeWires 16 = .ok (.iconst 2, 1) := dk_5 (dk_at dksX0_writeWires_0 16 rfl rfl)
theorem dX0_writeWires_17 : decode cX0_writeWires 17 = .ok (.ireturn, 1) := dk_172 (dk_at dksX0_writeWires_0 17 rfl rfl)
theorem dX0_writeWires_18 : decode cX0_writeWires 18 = .ok (.iconst 0, 1) := dk_3 (dk_at dksX0_writeWires_0 18 rfl rfl)
theorem dX0_writeWires_19 : decode cX0_writeWires 19 = .ok (.ireturn, 1) := dk_172 (dk_at dksX0_writeWires_0 19 rfl rfl)
abbrev cX0_writeLog : ByteArray := method_46_code
def yX0_writeLog : MethodName := ⟨RX0, "writeLog", "(LVotingHuts;[J)I"⟩
def dkwX0_writeLog_0 : List UInt8 := [43, 3, 42, 182, 0, 154, 133, 80, 167, 0, 6, 77, 4, 172, 3, 172]
abbrev dktX0_writeLog_0 : List UInt8 := dkwX0_writeLog_0 ++ []
theorem dksX0_writeLog_0 : cX0_writeLog.data.toList.drop 0 = dktX0_writeLog_0 := by decide +kernel
theorem dX0_writeLog_0 : decode cX0_writeLog 0 = .ok (.aload_n 1, 1) := dk_43 (dk_at dksX0_writeLog_0 0 rfl rfl)
theorem dX0_writeLog_1 : decode cX0_writeLog 1 = .ok (.iconst 0, 1) := dk_3 (dk_at dksX0_writeLog_0 1 rfl rfl)
theorem dX0_writeLog_2 : decode cX0_writeLog 2 = .ok (.aload_n 0, 1) := dk_42 (dk_at dksX0_writeLog_0 2 rfl rfl)
theorem dX0_writeLog_3 : decode cX0_writeLog 3 = .ok (.invokevirtual 154, 3) := dk_182 0 154 (dk_at dksX0_writeLog_0 3 rfl rfl)
theorem dX0_writeLog_6 : decode cX0_writeLog 6 = .ok (.i2l, 1) := dk_133 (dk_at dksX0_writeLog_0 6 rfl rfl)
theorem dX0_writeLog_7 : decode cX0_writeLog 7 = .ok (.lastore, 1) := dk_80 (dk_at dksX0_writeLog_0 7 rfl rfl)
theorem dX0_writeLog_8 : decode cX0_writeLog 8 = .ok (.goto 6, 3) := dk_167 0 6 (dk_at dksX0_writeLog_0 8 rfl rfl)
theorem dX0_writeLog_11 : decode cX0_writeLog 11 = .ok (.astore_n 2, 1) := dk_77 (dk_at dksX0_writeLog_0 11 rfl rfl)
theorem dX0_writeLog_12 : decode cX0_writeLog 12 = .ok (.iconst 1, 1) := dk_4 (dk_at dksX0_writeLog_0 12 rfl rfl)
theorem dX0_writeLog_13 : decode cX0_writeLog 13 = .ok (.ireturn, 1) := dk_172 (dk_at dksX0_writeLog_0 13 rfl rfl)
theorem dX0_writeLog_14 : decode cX0_writeLog 14 = .ok (.iconst 0, 1) := dk_3 (dk_at dksX0_writeLog_0 14 rfl rfl)
theorem dX0_writeLog_15 : decode cX0_writeLog 15 = .ok (.ireturn, 1) := dk_172 (dk_at dksX0_writeLog_0 15 rfl rfl)
abbrev cX0_textByte : ByteArray := method_47_code
def yX0_textByte : MethodName := ⟨RX0, "textByte", "(LVotingHuts;I[J)I"⟩
def dkwX0_textByte_0 : List UInt8 := [44, 3, 42, 27, 182, 0, 157, 133, 80, 167, 0, 6, 78, 4, 172, 3, 172]
abbrev dktX0_textByte_0 : List UInt8 := dkwX0_textByte_0 ++ []
theorem dksX0_textByte_0 : cX0_textByte.data.toList.drop 0 = dktX0_textByte_0 := by decide +kernel
theorem dX0_textByte_0 : decode cX0_textByte 0 = .ok (.aload_n 2, 1) := dk_44 (dk_at dksX0_textByte_0 0 rfl rfl)
theorem dX0_textByte_1 : decode cX0_textByte 1 = .ok (.iconst 0, 1) := dk_3 (dk_at dksX0_textByte_0 1 rfl rfl)
theorem dX0_textByte_2 : decode cX0_textByte 2 = .ok (.aload_n 0, 1) := dk_42 (dk_at dksX0_textByte_0 2 rfl rfl)
theorem dX0_textByte_3 : decode cX0_textByte 3 = .ok (.iload_n 1, 1) := dk_27 (dk_at dksX0_textByte_0 3 rfl rfl)
theorem dX0_textByte_4 : decode cX0_textByte 4 = .ok (.invokevirtual 157, 3) := dk_182 0 157 (dk_at dksX0_textByte_0 4 rfl rfl)
theorem dX0_textByte_7 : decode cX0_textByte 7 = .ok (.i2l, 1) := dk_133 (dk_at dksX0_textByte_0 7 rfl rfl)
theorem dX0_textByte_8 : decode cX0_textByte 8 = .ok (.lastore, 1) := dk_80 (dk_at dksX0_textByte_0 8 rfl rfl)
theorem dX0_textByte_9 : decode cX0_textByte 9 = .ok (.goto 6, 3) := dk_167 0 6 (dk_at dksX0_textByte_0 9 rfl rfl)
theorem dX0_textByte_12 : decode cX0_textByte 12 = .ok (.astore_n 3, 1) := dk_78 (dk_at dksX0_textByte_0 12 rfl rfl)
theorem dX0_textByte_13 : decode cX0_textByte 13 = .ok (.iconst 1, 1) := dk_4 (dk_at dksX0_textByte_0 13 rfl rfl)
theorem dX0_textByte_14 : decode cX0_textByte 14 = .ok (.ireturn, 1) := dk_172 (dk_at dksX0_textByte_0 14 rfl rfl)
theorem dX0_textByte_15 : decode cX0_textByte 15 = .ok (.iconst 0, 1) := dk_3 (dk_at dksX0_textByte_0 15 rfl rfl)
theorem dX0_textByte_16 : decode cX0_textByte 16 = .ok (.ireturn, 1) := dk_172 (dk_at dksX0_textByte_0 16 rfl rfl)
abbrev cX0_send : ByteArray := method_48_code
def yX0_send : MethodName := ⟨RX0, "send", "(LVotingHuts;II[J)I"⟩
def dkwX0_send_0 : List UInt8 := [45, 3, 42, 27, 28, 182, 0, 160, 133, 80, 167, 0, 11, 58, 4, 4, 172, 58, 4, 5, 172, 3, 172]
abbrev dktX0_send_0 : List UInt8 := dkwX0_send_0 ++ []
theorem dksX0_send_0 : cX0_send.data.toList.drop 0 = dktX0_send_0 := by decide +kernel
theorem dX0_send_0 : decode cX0_send 0 = .ok (.aload_n 3, 1) := dk_45 (dk_at dksX0_send_0 0 rfl rfl)
theorem dX0_send_1 : decode cX0_send 1 = .ok (.iconst 0, 1) := dk_3 (dk_at dksX0_send_0 1 rfl rfl)
theorem dX0_send_2 : decode cX0_send 2 = .ok (.aload_n 0, 1) := dk_42 (dk_at dksX0_send_0 2 rfl rfl)
theorem dX0_send_3 : decode cX0_send 3 = .ok (.iload_n 1, 1) := dk_27 (dk_at dksX0_send_0 3 rfl rfl)
theorem dX0_send_4 : decode cX0_send 4 = .ok (.iload_n 2, 1) := dk_28 (dk_at dksX0_send_0 4 rfl rfl)
theorem dX0_send_5 : decode cX0_send 5 = .ok (.invokevirtual 160, 3) := dk_182 0 160 (dk_at dksX0_send_0 5 rfl rfl)
theorem dX0_send_8 : decode cX0_send 8 = .ok (.i2l, 1) := dk_133 (dk_at dksX0_send_0 8 rfl rfl)
theorem dX0_send_9 : decode cX0_send 9 = .ok (.lastore, 1) := dk_80 (dk_at dksX0_send_0 9 rfl rfl)
theorem dX0_send_10 : decode cX0_send 10 = .ok (.goto 11, 3) := dk_167 0 11 (dk_at dksX0_send_0 10 rfl rfl)
theorem dX0_send_13 : decode cX0_send 13 = .ok (.astore 4, 2) := dk_58 4 (dk_at dksX0_send_0 13 rfl rfl)
theorem dX0_send_15 : decode cX0_send 15 = .ok (.iconst 1, 1) := dk_4 (dk_at dksX0_send_0 15 rfl rfl)
theorem dX0_send_16 : decode cX0_send 16 = .ok (.ireturn, 1) := dk_172 (dk_at dksX0_send_0 16 rfl rfl)
theorem dX0_send_17 : decode cX0_send 17 = .ok (.astore 4, 2) := dk_58 4 (dk_at dksX0_send_0 17 rfl rfl)
theorem dX0_send_19 : decode cX0_send 19 = .ok (.iconst 2, 1) := dk_5 (dk_at dksX0_send_0 19 rfl rfl)
theorem dX0_send_20 : decode cX0_send 20 = .ok (.ireturn, 1) := dk_172 (dk_at dksX0_send_0 20 rfl rfl)
theorem dX0_send_21 : decode cX0_send 21 = .ok (.iconst 0, 1) := dk_3 (dk_at dksX0_send_0 21 rfl rfl)
theorem dX0_send_22 : decode cX0_send 22 = .ok (.ireturn, 1) := dk_172 (dk_at dksX0_send_0 22 rfl rfl)
abbrev cX0_sendSame : ByteArray := method_49_code
def yX0_sendSame : MethodName := ⟨RX0, "sendSame", "(LVotingHuts;II[J)I"⟩
def dkwX0_sendSame_0 : List UInt8 := [45, 3, 42, 27, 28, 182, 0, 163, 133, 80, 167, 0, 11, 58, 4, 4, 172, 58, 4, 5, 172, 3, 172]
abbrev dktX0_sendSame_0 : List UInt8 := dkwX0_sendSame_0 ++ []
theorem dksX0_sendSame_0 : cX0_sendSame.data.toList.drop 0 = dktX0_sendSame_0 := by decide +kernel
theorem dX0_sendSame_0 : decode cX0_sendSame 0 = .ok (.aload_n 3, 1) := dk_45 (dk_at dksX0_sendSame_0 0 rfl rfl)
theorem dX0_sendSame_1 : decode cX0_sendSame 1 = .ok (.iconst 0, 1) := dk_3 (dk_at dksX0_sendSame_0 1 rfl rfl)
theorem dX0_sendSame_2 : decode cX0_sendSame 2 = .ok (.aload_n 0, 1) := dk_42 (dk_at dksX0_sendSame_0 2 rfl rfl)
theorem dX0_sendSame_3 : decode cX0_sendSame 3 = .ok (.iload_n 1, 1) := dk_27 (dk_at dksX0_sendSame_0 3 rfl rfl)
theorem dX0_sendSame_4 : decode cX0_sendSame 4 = .ok (.iload_n 2, 1) := dk_28 (dk_at dksX0_sendSame_0 4 rfl rfl)
theorem dX0_sendSame_5 : decode cX0_sendSame 5 = .ok (.invokevirtual 163, 3) := dk_182 0 163 (dk_at dksX0_sendSame_0 5 rfl rfl)
theorem dX0_sendSame_8 : decode cX0_sendSame 8 = .ok (.i2l, 1) := dk_133 (dk_at dksX0_sendSame_0 8 rfl rfl)
theorem dX0_sendSame_9 : decode cX0_sendSame 9 = .ok (.lastore, 1) := dk_80 (dk_at dksX0_sendSame_0 9 rfl rfl)
theorem dX0_sendSame_10 : decode cX0_sendSame 10 = .ok (.goto 11, 3) := dk_167 0 11 (dk_at dksX0_sendSame_0 10 rfl rfl)
theorem dX0_sendSame_13 : decode cX0_sendSame 13 = .ok (.astore 4, 2) := dk_58 4 (dk_at dksX0_sendSame_0 13 rfl rfl)
theorem dX0_sendSame_15 : decode cX0_sendSame 15 = .ok (.iconst 1, 1) := dk_4 (dk_at dksX0_sendSame_0 15 rfl rfl)
theorem dX0_sendSame_16 : decode cX0_sendSame 16 = .ok (.ireturn, 1) := dk_172 (dk_at dksX0_sendSame_0 16 rfl rfl)
theorem dX0_sendSame_17 : decode cX0_sendSame 17 = .ok (.astore 4, 2) := dk_58 4 (dk_at dksX0_sendSame_0 17 rfl rfl)
theorem dX0_sendSame_19 : decode cX0_sendSame 19 = .ok (.iconst 2, 1) := dk_5 (dk_at dksX0_sendSame_0 19 rfl rfl)
theorem dX0_sendSame_20 : decode cX0_sendSame 20 = .ok (.ireturn, 1) := dk_172 (dk_at dksX0_sendSame_0 20 rfl rfl)
theorem dX0_sendSame_21 : decode cX0_sendSame 21 = .ok (.iconst 0, 1) := dk_3 (dk_at dksX0_sendSame_0 21 rfl rfl)
theorem dX0_sendSame_22 : decode cX0_sendSame 22 = .ok (.ireturn, 1) := dk_172 (dk_at dksX0_sendSame_0 22 rfl rfl)
abbrev cX0_resend : ByteArray := method_50_code
def yX0_resend : MethodName := ⟨RX0, "resend", "(LVotingHuts;I[J)I"⟩
def dkwX0_resend_0 : List UInt8 := [44, 3, 42, 27, 182, 0, 166, 133, 80, 167, 0, 12, 78, 4, 172, 78, 5, 172, 78, 6, 172, 3, 172]
abbrev dktX0_resend_0 : List UInt8 := dkwX0_resend_0 ++ []
theorem dksX0_resend_0 : cX0_resend.data.toList.drop 0 = dktX0_resend_0 := by decide +kernel
theorem dX0_resend_0 : decode cX0_resend 0 = .ok (.aload_n 2, 1) := dk_44 (dk_at dksX0_resend_0 0 rfl rfl)
theorem dX0_resend_1 : decode cX0_resend 1 = .ok (.iconst 0, 1) := dk_3 (dk_at dksX0_resend_0 1 rfl rfl)
theorem dX0_resend_2 : decode cX0_resend 2 = .ok (.aload_n 0, 1) := dk_42 (dk_at dksX0_resend_0 2 rfl rfl)
theorem dX0_resend_3 : decode cX0_resend 3 = .ok (.iload_n 1, 1) := dk_27 (dk_at dksX0_resend_0 3 rfl rfl)
theorem dX0_resend_4 : decode cX0_resend 4 = .ok (.invokevirtual 166, 3) := dk_182 0 166 (dk_at dksX0_resend_0 4 rfl rfl)
theorem dX0_resend_7 : decode cX0_resend 7 = .ok (.i2l, 1) := dk_133 (dk_at dksX0_resend_0 7 rfl rfl)
theorem dX0_resend_8 : decode cX0_resend 8 = .ok (.lastore, 1) := dk_80 (dk_at dksX0_resend_0 8 rfl rfl)
theorem dX0_resend_9 : decode cX0_resend 9 = .ok (.goto 12, 3) := dk_167 0 12 (dk_at dksX0_resend_0 9 rfl rfl)
theorem dX0_resend_12 : decode cX0_resend 12 = .ok (.astore_n 3, 1) := dk_78 (dk_at dksX0_resend_0 12 rfl rfl)
theorem dX0_resend_13 : decode cX0_resend 13 = .ok (.iconst 1, 1) := dk_4 (dk_at dksX0_resend_0 13 rfl rfl)
theorem dX0_resend_14 : decode cX0_resend 14 = .ok (.ireturn, 1) := dk_172 (dk_at dksX0_resend_0 14 rfl rfl)
theorem dX0_resend_15 : decode cX0_resend 15 = .ok (.astore_n 3, 1) := dk_78 (dk_at dksX0_resend_0 15 rfl rfl)
theorem dX0_resend_16 : decode cX0_resend 16 = .ok (.iconst 2, 1) := dk_5 (dk_at dksX0_resend_0 16 rfl rfl)
theorem dX0_resend_17 : decode cX0_resend 17 = .ok (.ireturn, 1) := dk_172 (dk_at dksX0_resend_0 17 rfl rfl)
theorem dX0_resend_18 : decode cX0_resend 18 = .ok (.astore_n 3, 1) := dk_78 (dk_at dksX0_resend_0 18 rfl rfl)
theorem dX0_resend_19 : decode cX0_resend 19 = .ok (.iconst 3, 1) := dk_6 (dk_at dksX0_resend_0 19 rfl rfl)
theorem dX0_resend_20 : decode cX0_resend 20 = .ok (.ireturn, 1) := dk_172 (dk_at dksX0_resend_0 20 rfl rfl)
theorem dX0_resend_21 : decode cX0_resend 21 = .ok (.iconst 0, 1) := dk_3 (dk_at dksX0_resend_0 21 rfl rfl)
theorem dX0_resend_22 : decode cX0_resend 22 = .ok (.ireturn, 1) := dk_172 (dk_at dksX0_resend_0 22 rfl rfl)
abbrev cX0_pass : ByteArray := method_51_code
def yX0_pass : MethodName := ⟨RX0, "pass", "(LVotingHuts;I[J)I"⟩
def dkwX0_pass_0 : List UInt8 := [44, 3, 42, 27, 182, 0, 169, 133, 80, 167, 0, 9, 78, 4, 172, 78, 5, 172, 3, 172]
abbrev dktX0_pass_0 : List UInt8 := dkwX0_pass_0 ++ []
theorem dksX0_pass_0 : cX0_pass.data.toList.drop 0 = dktX0_pass_0 := by decide +kernel
theorem dX0_pass_0 : decode cX0_pass 0 = .ok (.aload_n 2, 1) := dk_44 (dk_at dksX0_pass_0 0 rfl rfl)
theorem dX0_pass_1 : decode cX0_pass 1 = .ok (.iconst 0, 1) := dk_3 (dk_at dksX0_pass_0 1 rfl rfl)
theorem dX0_pass_2 : decode cX0_pass 2 = .ok (.aload_n 0, 1) := dk_42 (dk_at dksX0_pass_0 2 rfl rfl)
theorem dX0_pass_3 : decode cX0_pass 3 = .ok (.iload_n 1, 1) := dk_27 (dk_at dksX0_pass_0 3 rfl rfl)
theorem dX0_pass_4 : decode cX0_pass 4 = .ok (.invokevirtual 169, 3) := dk_182 0 169 (dk_at dksX0_pass_0 4 rfl rfl)
theorem dX0_pass_7 : decode cX0_pass 7 = .ok (.i2l, 1) := dk_133 (dk_at dksX0_pass_0 7 rfl rfl)
theorem dX0_pass_8 : decode cX0_pass 8 = .ok (.lastore, 1) := dk_80 (dk_at dksX0_pass_0 8 rfl rfl)
theorem dX0_pass_9 : decode cX0_pass 9 = .ok (.goto 9, 3) := dk_167 0 9 (dk_at dksX0_pass_0 9 rfl rfl)
theorem dX0_pass_12 : decode cX0_pass 12 = .ok (.astore_n 3, 1) := dk_78 (dk_at dksX0_pass_0 12 rfl rfl)
theorem dX0_pass_13 : decode cX0_pass 13 = .ok (.iconst 1, 1) := dk_4 (dk_at dksX0_pass_0 13 rfl rfl)
theorem dX0_pass_14 : decode cX0_pass 14 = .ok (.ireturn, 1) := dk_172 (dk_at dksX0_pass_0 14 rfl rfl)
theorem dX0_pass_15 : decode cX0_pass 15 = .ok (.astore_n 3, 1) := dk_78 (dk_at dksX0_pass_0 15 rfl rfl)
theorem dX0_pass_16 : decode cX0_pass 16 = .ok (.iconst 2, 1) := dk_5 (dk_at dksX0_pass_0 16 rfl rfl)
theorem dX0_pass_17 : decode cX0_pass 17 = .ok (.ireturn, 1) := dk_172 (dk_at dksX0_pass_0 17 rfl rfl)
theorem dX0_pass_18 : decode cX0_pass 18 = .ok (.iconst 0, 1) := dk_3 (dk_at dksX0_pass_0 18 rfl rfl)
theorem dX0_pass_19 : decode cX0_pass 19 = .ok (.ireturn, 1) := dk_172 (dk_at dksX0_pass_0 19 rfl rfl)
abbrev cX0_setStorm : ByteArray := method_52_code
def yX0_setStorm : MethodName := ⟨RX0, "setStorm", "(LVotingHuts;III[J)I"⟩
def dkwX0_setStorm_1 : List UInt8 := [58, 5, 6, 172, 3, 172]
abbrev dktX0_setStorm_1 : List UInt8 := dkwX0_setStorm_1 ++ []
def dkwX0_setStorm_0 : List UInt8 := [25, 4, 3, 42, 27, 28, 29, 182, 0, 172, 133, 80, 167, 0, 15, 58, 5, 4, 172, 58, 5, 5, 172]
abbrev dktX0_setStorm_0 : List UInt8 := dkwX0_setStorm_0 ++ dktX0_setStorm_1
theorem dksX0_setStorm_0 : cX0_setStorm.data.toList.drop 0 = dktX0_setStorm_0 := by decide +kernel
theorem dksX0_setStorm_1 : cX0_setStorm.data.toList.drop 23 = dktX0_setStorm_1 := dk_seg dksX0_setStorm_0 23 rfl rfl
theorem dX0_setStorm_0 : decode cX0_setStorm 0 = .ok (.aload 4, 2) := dk_25 4 (dk_at dksX0_setStorm_0 0 rfl rfl)
theorem dX0_setStorm_2 : decode cX0_setStorm 2 = .ok (.iconst 0, 1) := dk_3 (dk_at dksX0_setStorm_0 2 rfl rfl)
theorem dX0_setStorm_3 : decode cX0_setStorm 3 = .ok (.aload_n 0, 1) := dk_42 (dk_at dksX0_setStorm_0 3 rfl rfl)
theorem dX0_setStorm_4 : decode cX0_setStorm 4 = .ok (.iload_n 1, 1) := dk_27 (dk_at dksX0_setStorm_0 4 rfl rfl)
theorem dX0_setStorm_5 : decode cX0_setStorm 5 = .ok (.iload_n 2, 1) := dk_28 (dk_at dksX0_setStorm_0 5 rfl rfl)
theorem dX0_setStorm_6 : decode cX0_setStorm 6 = .ok (.iload_n 3, 1) := dk_29 (dk_at dksX0_setStorm_0 6 rfl rfl)
theorem dX0_setStorm_7 : decode cX0_setStorm 7 = .ok (.invokevirtual 172, 3) := dk_182 0 172 (dk_at dksX0_setStorm_0 7 rfl rfl)
theorem dX0_setStorm_10 : decode cX0_setStorm 10 = .ok (.i2l, 1) := dk_133 (dk_at dksX0_setStorm_0 10 rfl rfl)
theorem dX0_setStorm_11 : decode cX0_setStorm 11 = .ok (.lastore, 1) := dk_80 (dk_at dksX0_setStorm_0 11 rfl rfl)
theorem dX0_setStorm_12 : decode cX0_setStorm 12 = .ok (.goto 15, 3) := dk_167 0 15 (dk_at dksX0_setStorm_0 12 rfl rfl)
theorem dX0_setStorm_15 : decode cX0_setStorm 15 = .ok (.astore 5, 2) := dk_58 5 (dk_at dksX0_setStorm_0 15 rfl rfl)
theorem dX0_setStorm_17 : decode cX0_setStorm 17 = .ok (.iconst 1, 1) := dk_4 (dk_at dksX0_setStorm_0 17 rfl rfl)
theorem dX0_setStorm_18 : decode cX0_setStorm 18 = .ok (.ireturn, 1) := dk_172 (dk_at dksX0_setStorm_0 18 rfl rfl)
theorem dX0_setStorm_19 : decode cX0_setStorm 19 = .ok (.astore 5, 2) := dk_58 5 (dk_at dksX0_setStorm_0 19 rfl rfl)
theorem dX0_setStorm_21 : decode cX0_setStorm 21 = .ok (.iconst 2, 1) := dk_5 (dk_at dksX0_setStorm_0 21 rfl rfl)
theorem dX0_setStorm_22 : decode cX0_setStorm 22 = .ok (.ireturn, 1) := dk_172 (dk_at dksX0_setStorm_0 22 rfl rfl)
theorem dX0_setStorm_23 : decode cX0_setStorm 23 = .ok (.astore 5, 2) := dk_58 5 (dk_at dksX0_setStorm_1 0 rfl rfl)
theorem dX0_setStorm_25 : decode cX0_setStorm 25 = .ok (.iconst 3, 1) := dk_6 (dk_at dksX0_setStorm_1 2 rfl rfl)
theorem dX0_setStorm_26 : decode cX0_setStorm 26 = .ok (.ireturn, 1) := dk_172 (dk_at dksX0_setStorm_1 3 rfl rfl)
theorem dX0_setStorm_27 : decode cX0_setStorm 27 = .ok (.iconst 0, 1) := dk_3 (dk_at dksX0_setStorm_1 4 rfl rfl)
theorem dX0_setStorm_28 : decode cX0_setStorm 28 = .ok (.ireturn, 1) := dk_172 (dk_at dksX0_setStorm_1 5 rfl rfl)
abbrev cX0_calm : ByteArray := method_53_code
def yX0_calm : MethodName := ⟨RX0, "calm", "(LVotingHuts;[J)I"⟩
def dkwX0_calm_0 : List UInt8 := [43, 3, 42, 182, 0, 175, 133, 80, 167, 0, 6, 77, 4, 172, 3, 172]
abbrev dktX0_calm_0 : List UInt8 := dkwX0_calm_0 ++ []
theorem dksX0_calm_0 : cX0_calm.data.toList.drop 0 = dktX0_calm_0 := by decide +kernel
theorem dX0_calm_0 : decode cX0_calm 0 = .ok (.aload_n 1, 1) := dk_43 (dk_at dksX0_calm_0 0 rfl rfl)
theorem dX0_calm_1 : decode cX0_calm 1 = .ok (.iconst 0, 1) := dk_3 (dk_at dksX0_calm_0 1 rfl rfl)
theorem dX0_calm_2 : decode cX0_calm 2 = .ok (.aload_n 0, 1) := dk_42 (dk_at dksX0_calm_0 2 rfl rfl)
theorem dX0_calm_3 : decode cX0_calm 3 = .ok (.invokevirtual 175, 3) := dk_182 0 175 (dk_at dksX0_calm_0 3 rfl rfl)
theorem dX0_calm_6 : decode cX0_calm 6 = .ok (.i2l, 1) := dk_133 (dk_at dksX0_calm_0 6 rfl rfl)
theorem dX0_calm_7 : decode cX0_calm 7 = .ok (.lastore, 1) := dk_80 (dk_at dksX0_calm_0 7 rfl rfl)
theorem dX0_calm_8 : decode cX0_calm 8 = .ok (.goto 6, 3) := dk_167 0 6 (dk_at dksX0_calm_0 8 rfl rfl)
theorem dX0_calm_11 : decode cX0_calm 11 = .ok (.astore_n 2, 1) := dk_77 (dk_at dksX0_calm_0 11 rfl rfl)
theorem dX0_calm_12 : decode cX0_calm 12 = .ok (.iconst 1, 1) := dk_4 (dk_at dksX0_calm_0 12 rfl rfl)
theorem dX0_calm_13 : decode cX0_calm 13 = .ok (.ireturn, 1) := dk_172 (dk_at dksX0_calm_0 13 rfl rfl)
theorem dX0_calm_14 : decode cX0_calm 14 = .ok (.iconst 0, 1) := dk_3 (dk_at dksX0_calm_0 14 rfl rfl)
theorem dX0_calm_15 : decode cX0_calm 15 = .ok (.ireturn, 1) := dk_172 (dk_at dksX0_calm_0 15 rfl rfl)
abbrev cX0_turnWire : ByteArray := method_54_code
def yX0_turnWire : MethodName := ⟨RX0, "turnWire", "(LVotingHuts;I[J)I"⟩
def dkwX0_turnWire_0 : List UInt8 := [44, 3, 42, 27, 182, 0, 178, 133, 80, 167, 0, 9, 78, 4, 172, 78, 5, 172, 3, 172]
abbrev dktX0_turnWire_0 : List UInt8 := dkwX0_turnWire_0 ++ []
theorem dksX0_turnWire_0 : cX0_turnWire.data.toList.drop 0 = dktX0_turnWire_0 := by decide +kernel
theorem dX0_turnWire_0 : decode cX0_turnWire 0 = .ok (.aload_n 2, 1) := dk_44 (dk_at dksX0_turnWire_0 0 rfl rfl)
theorem dX0_turnWire_1 : decode cX0_turnWire 1 = .ok (.iconst 0, 1) := dk_3 (dk_at dksX0_turnWire_0 1 rfl rfl)
theorem dX0_turnWire_2 : decode cX0_turnWire 2 = .ok (.aload_n 0, 1) := dk_42 (dk_at dksX0_turnWire_0 2 rfl rfl)
theorem dX0_turnWire_3 : decode cX0_turnWire 3 = .ok (.iload_n 1, 1) := dk_27 (dk_at dksX0_turnWire_0 3 rfl rfl)
theorem dX0_turnWire_4 : decode cX0_turnWire 4 = .ok (.invokevirtual 178, 3) := dk_182 0 178 (dk_at dksX0_turnWire_0 4 rfl rfl)
theorem dX0_turnWire_7 : decode cX0_turnWire 7 = .ok (.i2l, 1) := dk_133 (dk_at dksX0_turnWire_0 7 rfl rfl)
theorem dX0_turnWire_8 : decode cX0_turnWire 8 = .ok (.lastore, 1) := dk_80 (dk_at dksX0_turnWire_0 8 rfl rfl)
theorem dX0_turnWire_9 : decode cX0_turnWire 9 = .ok (.goto 9, 3) := dk_167 0 9 (dk_at dksX0_turnWire_0 9 rfl rfl)
theorem dX0_turnWire_12 : decode cX0_turnWire 12 = .ok (.astore_n 3, 1) := dk_78 (dk_at dksX0_turnWire_0 12 rfl rfl)
theorem dX0_turnWire_13 : decode cX0_turnWire 13 = .ok (.iconst 1, 1) := dk_4 (dk_at dksX0_turnWire_0 13 rfl rfl)
theorem dX0_turnWire_14 : decode cX0_turnWire 14 = .ok (.ireturn, 1) := dk_172 (dk_at dksX0_turnWire_0 14 rfl rfl)
theorem dX0_turnWire_15 : decode cX0_turnWire 15 = .ok (.astore_n 3, 1) := dk_78 (dk_at dksX0_turnWire_0 15 rfl rfl)
theorem dX0_turnWire_16 : decode cX0_turnWire 16 = .ok (.iconst 2, 1) := dk_5 (dk_at dksX0_turnWire_0 16 rfl rfl)
theorem dX0_turnWire_17 : decode cX0_turnWire 17 = .ok (.ireturn, 1) := dk_172 (dk_at dksX0_turnWire_0 17 rfl rfl)
theorem dX0_turnWire_18 : decode cX0_turnWire 18 = .ok (.iconst 0, 1) := dk_3 (dk_at dksX0_turnWire_0 18 rfl rfl)
theorem dX0_turnWire_19 : decode cX0_turnWire 19 = .ok (.ireturn, 1) := dk_172 (dk_at dksX0_turnWire_0 19 rfl rfl)
abbrev cX0_mendAll : ByteArray := method_55_code
def yX0_mendAll : MethodName := ⟨RX0, "mendAll", "(LVotingHuts;[J)I"⟩
def dkwX0_mendAll_0 : List UInt8 := [43, 3, 42, 182, 0, 181, 133, 80, 167, 0, 6, 77, 4, 172, 3, 172]
abbrev dktX0_mendAll_0 : List UInt8 := dkwX0_mendAll_0 ++ []
theorem dksX0_mendAll_0 : cX0_mendAll.data.toList.drop 0 = dktX0_mendAll_0 := by decide +kernel
theorem dX0_mendAll_0 : decode cX0_mendAll 0 = .ok (.aload_n 1, 1) := dk_43 (dk_at dksX0_mendAll_0 0 rfl rfl)
theorem dX0_mendAll_1 : decode cX0_mendAll 1 = .ok (.iconst 0, 1) := dk_3 (dk_at dksX0_mendAll_0 1 rfl rfl)
theorem dX0_mendAll_2 : decode cX0_mendAll 2 = .ok (.aload_n 0, 1) := dk_42 (dk_at dksX0_mendAll_0 2 rfl rfl)
theorem dX0_mendAll_3 : decode cX0_mendAll 3 = .ok (.invokevirtual 181, 3) := dk_182 0 181 (dk_at dksX0_mendAll_0 3 rfl rfl)
theorem dX0_mendAll_6 : decode cX0_mendAll 6 = .ok (.i2l, 1) := dk_133 (dk_at dksX0_mendAll_0 6 rfl rfl)
theorem dX0_mendAll_7 : decode cX0_mendAll 7 = .ok (.lastore, 1) := dk_80 (dk_at dksX0_mendAll_0 7 rfl rfl)
theorem dX0_mendAll_8 : decode cX0_mendAll 8 = .ok (.goto 6, 3) := dk_167 0 6 (dk_at dksX0_mendAll_0 8 rfl rfl)
theorem dX0_mendAll_11 : decode cX0_mendAll 11 = .ok (.astore_n 2, 1) := dk_77 (dk_at dksX0_mendAll_0 11 rfl rfl)
theorem dX0_mendAll_12 : decode cX0_mendAll 12 = .ok (.iconst 1, 1) := dk_4 (dk_at dksX0_mendAll_0 12 rfl rfl)
theorem dX0_mendAll_13 : decode cX0_mendAll 13 = .ok (.ireturn, 1) := dk_172 (dk_at dksX0_mendAll_0 13 rfl rfl)
theorem dX0_mendAll_14 : decode cX0_mendAll 14 = .ok (.iconst 0, 1) := dk_3 (dk_at dksX0_mendAll_0 14 rfl rfl)
theorem dX0_mendAll_15 : decode cX0_mendAll 15 = .ok (.ireturn, 1) := dk_172 (dk_at dksX0_mendAll_0 15 rfl rfl)
abbrev cX0_turnLevel : ByteArray := method_56_code
def yX0_turnLevel : MethodName := ⟨RX0, "turnLevel", "(LVotingHuts;I[J)I"⟩
def dkwX0_turnLevel_0 : List UInt8 := [44, 3, 42, 27, 182, 0, 184, 133, 80, 167, 0, 9, 78, 4, 172, 78, 5, 172, 3, 172]
abbrev dktX0_turnLevel_0 : List UInt8 := dkwX0_turnLevel_0 ++ []
theorem dksX0_turnLevel_0 : cX0_turnLevel.data.toList.drop 0 = dktX0_turnLevel_0 := by decide +kernel
theorem dX0_turnLevel_0 : decode cX0_turnLevel 0 = .ok (.aload_n 2, 1) := dk_44 (dk_at dksX0_turnLevel_0 0 rfl rfl)
theorem dX0_turnLevel_1 : decode cX0_turnLevel 1 = .ok (.iconst 0, 1) := dk_3 (dk_at dksX0_turnLevel_0 1 rfl rfl)
theorem dX0_turnLevel_2 : decode cX0_turnLevel 2 = .ok (.aload_n 0, 1) := dk_42 (dk_at dksX0_turnLevel_0 2 rfl rfl)
theorem dX0_turnLevel_3 : decode cX0_turnLevel 3 = .ok (.iload_n 1, 1) := dk_27 (dk_at dksX0_turnLevel_0 3 rfl rfl)
theorem dX0_turnLevel_4 : decode cX0_turnLevel 4 = .ok (.invokevirtual 184, 3) := dk_182 0 184 (dk_at dksX0_turnLevel_0 4 rfl rfl)
theorem dX0_turnLevel_7 : decode cX0_turnLevel 7 = .ok (.i2l, 1) := dk_133 (dk_at dksX0_turnLevel_0 7 rfl rfl)
theorem dX0_turnLevel_8 : decode cX0_turnLevel 8 = .ok (.lastore, 1) := dk_80 (dk_at dksX0_turnLevel_0 8 rfl rfl)
theorem dX0_turnLevel_9 : decode cX0_turnLevel 9 = .ok (.goto 9, 3) := dk_167 0 9 (dk_at dksX0_turnLevel_0 9 rfl rfl)
theorem dX0_turnLevel_12 : decode cX0_turnLevel 12 = .ok (.astore_n 3, 1) := dk_78 (dk_at dksX0_turnLevel_0 12 rfl rfl)
theorem dX0_turnLevel_13 : decode cX0_turnLevel 13 = .ok (.iconst 1, 1) := dk_4 (dk_at dksX0_turnLevel_0 13 rfl rfl)
theorem dX0_turnLevel_14 : decode cX0_turnLevel 14 = .ok (.ireturn, 1) := dk_172 (dk_at dksX0_turnLevel_0 14 rfl rfl)
theorem dX0_turnLevel_15 : decode cX0_turnLevel 15 = .ok (.astore_n 3, 1) := dk_78 (dk_at dksX0_turnLevel_0 15 rfl rfl)
theorem dX0_turnLevel_16 : decode cX0_turnLevel 16 = .ok (.iconst 2, 1) := dk_5 (dk_at dksX0_turnLevel_0 16 rfl rfl)
theorem dX0_turnLevel_17 : decode cX0_turnLevel 17 = .ok (.ireturn, 1) := dk_172 (dk_at dksX0_turnLevel_0 17 rfl rfl)
theorem dX0_turnLevel_18 : decode cX0_turnLevel 18 = .ok (.iconst 0, 1) := dk_3 (dk_at dksX0_turnLevel_0 18 rfl rfl)
theorem dX0_turnLevel_19 : decode cX0_turnLevel 19 = .ok (.ireturn, 1) := dk_172 (dk_at dksX0_turnLevel_0 19 rfl rfl)
abbrev cX0_setAsks : ByteArray := method_57_code
def yX0_setAsks : MethodName := ⟨RX0, "setAsks", "(LVotingHuts;I[J)I"⟩
def dkwX0_setAsks_0 : List UInt8 := [44, 3, 42, 27, 182, 0, 187, 133, 80, 167, 0, 9, 78, 4, 172, 78, 5, 172, 3, 172]
abbrev dktX0_setAsks_0 : List UInt8 := dkwX0_setAsks_0 ++ []
theorem dksX0_setAsks_0 : cX0_setAsks.data.toList.drop 0 = dktX0_setAsks_0 := by decide +kernel
theorem dX0_setAsks_0 : decode cX0_setAsks 0 = .ok (.aload_n 2, 1) := dk_44 (dk_at dksX0_setAsks_0 0 rfl rfl)
theorem dX0_setAsks_1 : decode cX0_setAsks 1 = .ok (.iconst 0, 1) := dk_3 (dk_at dksX0_setAsks_0 1 rfl rfl)
theorem dX0_setAsks_2 : decode cX0_setAsks 2 = .ok (.aload_n 0, 1) := dk_42 (dk_at dksX0_setAsks_0 2 rfl rfl)
theorem dX0_setAsks_3 : decode cX0_setAsks 3 = .ok (.iload_n 1, 1) := dk_27 (dk_at dksX0_setAsks_0 3 rfl rfl)
theorem dX0_setAsks_4 : decode cX0_setAsks 4 = .ok (.invokevirtual 187, 3) := dk_182 0 187 (dk_at dksX0_setAsks_0 4 rfl rfl)
theorem dX0_setAsks_7 : decode cX0_setAsks 7 = .ok (.i2l, 1) := dk_133 (dk_at dksX0_setAsks_0 7 rfl rfl)
theorem dX0_setAsks_8 : decode cX0_setAsks 8 = .ok (.lastore, 1) := dk_80 (dk_at dksX0_setAsks_0 8 rfl rfl)
theorem dX0_setAsks_9 : decode cX0_setAsks 9 = .ok (.goto 9, 3) := dk_167 0 9 (dk_at dksX0_setAsks_0 9 rfl rfl)
theorem dX0_setAsks_12 : decode cX0_setAsks 12 = .ok (.astore_n 3, 1) := dk_78 (dk_at dksX0_setAsks_0 12 rfl rfl)
theorem dX0_setAsks_13 : decode cX0_setAsks 13 = .ok (.iconst 1, 1) := dk_4 (dk_at dksX0_setAsks_0 13 rfl rfl)
theorem dX0_setAsks_14 : decode cX0_setAsks 14 = .ok (.ireturn, 1) := dk_172 (dk_at dksX0_setAsks_0 14 rfl rfl)
theorem dX0_setAsks_15 : decode cX0_setAsks 15 = .ok (.astore_n 3, 1) := dk_78 (dk_at dksX0_setAsks_0 15 rfl rfl)
theorem dX0_setAsks_16 : decode cX0_setAsks 16 = .ok (.iconst 2, 1) := dk_5 (dk_at dksX0_setAsks_0 16 rfl rfl)
theorem dX0_setAsks_17 : decode cX0_setAsks 17 = .ok (.ireturn, 1) := dk_172 (dk_at dksX0_setAsks_0 17 rfl rfl)
theorem dX0_setAsks_18 : decode cX0_setAsks 18 = .ok (.iconst 0, 1) := dk_3 (dk_at dksX0_setAsks_0 18 rfl rfl)
theorem dX0_setAsks_19 : decode cX0_setAsks 19 = .ok (.ireturn, 1) := dk_172 (dk_at dksX0_setAsks_0 19 rfl rfl)
abbrev cX0_drop : ByteArray := method_58_code
def yX0_drop : MethodName := ⟨RX0, "drop", "(LVotingHuts;I[J)I"⟩
def dkwX0_drop_0 : List UInt8 := [44, 3, 42, 27, 182, 0, 190, 133, 80, 167, 0, 12, 78, 4, 172, 78, 5, 172, 78, 6, 172, 3, 172]
abbrev dktX0_drop_0 : List UInt8 := dkwX0_drop_0 ++ []
theorem dksX0_drop_0 : cX0_drop.data.toList.drop 0 = dktX0_drop_0 := by decide +kernel
theorem dX0_drop_0 : decode cX0_drop 0 = .ok (.aload_n 2, 1) := dk_44 (dk_at dksX0_drop_0 0 rfl rfl)
theorem dX0_drop_1 : decode cX0_drop 1 = .ok (.iconst 0, 1) := dk_3 (dk_at dksX0_drop_0 1 rfl rfl)
theorem dX0_drop_2 : decode cX0_drop 2 = .ok (.aload_n 0, 1) := dk_42 (dk_at dksX0_drop_0 2 rfl rfl)
theorem dX0_drop_3 : decode cX0_drop 3 = .ok (.iload_n 1, 1) := dk_27 (dk_at dksX0_drop_0 3 rfl rfl)
theorem dX0_drop_4 : decode cX0_drop 4 = .ok (.invokevirtual 190, 3) := dk_182 0 190 (dk_at dksX0_drop_0 4 rfl rfl)
theorem dX0_drop_7 : decode cX0_drop 7 = .ok (.i2l, 1) := dk_133 (dk_at dksX0_drop_0 7 rfl rfl)
theorem dX0_drop_8 : decode cX0_drop 8 = .ok (.lastore, 1) := dk_80 (dk_at dksX0_drop_0 8 rfl rfl)
theorem dX0_drop_9 : decode cX0_drop 9 = .ok (.goto 12, 3) := dk_167 0 12 (dk_at dksX0_drop_0 9 rfl rfl)
theorem dX0_drop_12 : decode cX0_drop 12 = .ok (.astore_n 3, 1) := dk_78 (dk_at dksX0_drop_0 12 rfl rfl)
theorem dX0_drop_13 : decode cX0_drop 13 = .ok (.iconst 1, 1) := dk_4 (dk_at dksX0_drop_0 13 rfl rfl)
theorem dX0_drop_14 : decode cX0_drop 14 = .ok (.ireturn, 1) := dk_172 (dk_at dksX0_drop_0 14 rfl rfl)
theorem dX0_drop_15 : decode cX0_drop 15 = .ok (.astore_n 3, 1) := dk_78 (dk_at dksX0_drop_0 15 rfl rfl)
theorem dX0_drop_16 : decode cX0_drop 16 = .ok (.iconst 2, 1) := dk_5 (dk_at dksX0_drop_0 16 rfl rfl)
theorem dX0_drop_17 : decode cX0_drop 17 = .ok (.ireturn, 1) := dk_172 (dk_at dksX0_drop_0 17 rfl rfl)
theorem dX0_drop_18 : decode cX0_drop 18 = .ok (.astore_n 3, 1) := dk_78 (dk_at dksX0_drop_0 18 rfl rfl)
theorem dX0_drop_19 : decode cX0_drop 19 = .ok (.iconst 3, 1) := dk_6 (dk_at dksX0_drop_0 19 rfl rfl)
theorem dX0_drop_20 : decode cX0_drop 20 = .ok (.ireturn, 1) := dk_172 (dk_at dksX0_drop_0 20 rfl rfl)
theorem dX0_drop_21 : decode cX0_drop 21 = .ok (.iconst 0, 1) := dk_3 (dk_at dksX0_drop_0 21 rfl rfl)
theorem dX0_drop_22 : decode cX0_drop 22 = .ok (.ireturn, 1) := dk_172 (dk_at dksX0_drop_0 22 rfl rfl)
abbrev cX0_undo : ByteArray := method_59_code
def yX0_undo : MethodName := ⟨RX0, "undo", "(LVotingHuts;[J)I"⟩
def dkwX0_undo_0 : List UInt8 := [43, 3, 42, 182, 0, 193, 133, 80, 167, 0, 6, 77, 4, 172, 3, 172]
abbrev dktX0_undo_0 : List UInt8 := dkwX0_undo_0 ++ []
theorem dksX0_undo_0 : cX0_undo.data.toList.drop 0 = dktX0_undo_0 := by decide +kernel
theorem dX0_undo_0 : decode cX0_undo 0 = .ok (.aload_n 1, 1) := dk_43 (dk_at dksX0_undo_0 0 rfl rfl)
theorem dX0_undo_1 : decode cX0_undo 1 = .ok (.iconst 0, 1) := dk_3 (dk_at dksX0_undo_0 1 rfl rfl)
theorem dX0_undo_2 : decode cX0_undo 2 = .ok (.aload_n 0, 1) := dk_42 (dk_at dksX0_undo_0 2 rfl rfl)
theorem dX0_undo_3 : decode cX0_undo 3 = .ok (.invokevirtual 193, 3) := dk_182 0 193 (dk_at dksX0_undo_0 3 rfl rfl)
theorem dX0_undo_6 : decode cX0_undo 6 = .ok (.i2l, 1) := dk_133 (dk_at dksX0_undo_0 6 rfl rfl)
theorem dX0_undo_7 : decode cX0_undo 7 = .ok (.lastore, 1) := dk_80 (dk_at dksX0_undo_0 7 rfl rfl)
theorem dX0_undo_8 : decode cX0_undo 8 = .ok (.goto 6, 3) := dk_167 0 6 (dk_at dksX0_undo_0 8 rfl rfl)
theorem dX0_undo_11 : decode cX0_undo 11 = .ok (.astore_n 2, 1) := dk_77 (dk_at dksX0_undo_0 11 rfl rfl)
theorem dX0_undo_12 : decode cX0_undo 12 = .ok (.iconst 1, 1) := dk_4 (dk_at dksX0_undo_0 12 rfl rfl)
theorem dX0_undo_13 : decode cX0_undo 13 = .ok (.ireturn, 1) := dk_172 (dk_at dksX0_undo_0 13 rfl rfl)
theorem dX0_undo_14 : decode cX0_undo 14 = .ok (.iconst 0, 1) := dk_3 (dk_at dksX0_undo_0 14 rfl rfl)
theorem dX0_undo_15 : decode cX0_undo 15 = .ok (.ireturn, 1) := dk_172 (dk_at dksX0_undo_0 15 rfl rfl)
abbrev cX0_save : ByteArray := method_60_code
def yX0_save : MethodName := ⟨RX0, "save", "(LVotingHuts;I[J)I"⟩
def dkwX0_save_0 : List UInt8 := [44, 3, 42, 27, 182, 0, 196, 133, 80, 167, 0, 9, 78, 4, 172, 78, 5, 172, 3, 172]
abbrev dktX0_save_0 : List UInt8 := dkwX0_save_0 ++ []
theorem dksX0_save_0 : cX0_save.data.toList.drop 0 = dktX0_save_0 := by decide +kernel
theorem dX0_save_0 : decode cX0_save 0 = .ok (.aload_n 2, 1) := dk_44 (dk_at dksX0_save_0 0 rfl rfl)
theorem dX0_save_1 : decode cX0_save 1 = .ok (.iconst 0, 1) := dk_3 (dk_at dksX0_save_0 1 rfl rfl)
theorem dX0_save_2 : decode cX0_save 2 = .ok (.aload_n 0, 1) := dk_42 (dk_at dksX0_save_0 2 rfl rfl)
theorem dX0_save_3 : decode cX0_save 3 = .ok (.iload_n 1, 1) := dk_27 (dk_at dksX0_save_0 3 rfl rfl)
theorem dX0_save_4 : decode cX0_save 4 = .ok (.invokevirtual 196, 3) := dk_182 0 196 (dk_at dksX0_save_0 4 rfl rfl)
theorem dX0_save_7 : decode cX0_save 7 = .ok (.i2l, 1) := dk_133 (dk_at dksX0_save_0 7 rfl rfl)
theorem dX0_save_8 : decode cX0_save 8 = .ok (.lastore, 1) := dk_80 (dk_at dksX0_save_0 8 rfl rfl)
theorem dX0_save_9 : decode cX0_save 9 = .ok (.goto 9, 3) := dk_167 0 9 (dk_at dksX0_save_0 9 rfl rfl)
theorem dX0_save_12 : decode cX0_save 12 = .ok (.astore_n 3, 1) := dk_78 (dk_at dksX0_save_0 12 rfl rfl)
theorem dX0_save_13 : decode cX0_save 13 = .ok (.iconst 1, 1) := dk_4 (dk_at dksX0_save_0 13 rfl rfl)
theorem dX0_save_14 : decode cX0_save 14 = .ok (.ireturn, 1) := dk_172 (dk_at dksX0_save_0 14 rfl rfl)
theorem dX0_save_15 : decode cX0_save 15 = .ok (.astore_n 3, 1) := dk_78 (dk_at dksX0_save_0 15 rfl rfl)
theorem dX0_save_16 : decode cX0_save 16 = .ok (.iconst 2, 1) := dk_5 (dk_at dksX0_save_0 16 rfl rfl)
theorem dX0_save_17 : decode cX0_save 17 = .ok (.ireturn, 1) := dk_172 (dk_at dksX0_save_0 17 rfl rfl)
theorem dX0_save_18 : decode cX0_save 18 = .ok (.iconst 0, 1) := dk_3 (dk_at dksX0_save_0 18 rfl rfl)
theorem dX0_save_19 : decode cX0_save 19 = .ok (.ireturn, 1) := dk_172 (dk_at dksX0_save_0 19 rfl rfl)
abbrev cX0_restore : ByteArray := method_61_code
def yX0_restore : MethodName := ⟨RX0, "restore", "(LVotingHuts;I[J)I"⟩
def dkwX0_restore_0 : List UInt8 := [44, 3, 42, 27, 182, 0, 199, 133, 80, 167, 0, 9, 78, 4, 172, 78, 5, 172, 3, 172]
abbrev dktX0_restore_0 : List UInt8 := dkwX0_restore_0 ++ []
theorem dksX0_restore_0 : cX0_restore.data.toList.drop 0 = dktX0_restore_0 := by decide +kernel
theorem dX0_restore_0 : decode cX0_restore 0 = .ok (.aload_n 2, 1) := dk_44 (dk_at dksX0_restore_0 0 rfl rfl)
theorem dX0_restore_1 : decode cX0_restore 1 = .ok (.iconst 0, 1) := dk_3 (dk_at dksX0_restore_0 1 rfl rfl)
theorem dX0_restore_2 : decode cX0_restore 2 = .ok (.aload_n 0, 1) := dk_42 (dk_at dksX0_restore_0 2 rfl rfl)
theorem dX0_restore_3 : decode cX0_restore 3 = .ok (.iload_n 1, 1) := dk_27 (dk_at dksX0_restore_0 3 rfl rfl)
theorem dX0_restore_4 : decode cX0_restore 4 = .ok (.invokevirtual 199, 3) := dk_182 0 199 (dk_at dksX0_restore_0 4 rfl rfl)
theorem dX0_restore_7 : decode cX0_restore 7 = .ok (.i2l, 1) := dk_133 (dk_at dksX0_restore_0 7 rfl rfl)
theorem dX0_restore_8 : decode cX0_restore 8 = .ok (.lastore, 1) := dk_80 (dk_at dksX0_restore_0 8 rfl rfl)
theorem dX0_restore_9 : decode cX0_restore 9 = .ok (.goto 9, 3) := dk_167 0 9 (dk_at dksX0_restore_0 9 rfl rfl)
theorem dX0_restore_12 : decode cX0_restore 12 = .ok (.astore_n 3, 1) := dk_78 (dk_at dksX0_restore_0 12 rfl rfl)
theorem dX0_restore_13 : decode cX0_restore 13 = .ok (.iconst 1, 1) := dk_4 (dk_at dksX0_restore_0 13 rfl rfl)
theorem dX0_restore_14 : decode cX0_restore 14 = .ok (.ireturn, 1) := dk_172 (dk_at dksX0_restore_0 14 rfl rfl)
theorem dX0_restore_15 : decode cX0_restore 15 = .ok (.astore_n 3, 1) := dk_78 (dk_at dksX0_restore_0 15 rfl rfl)
theorem dX0_restore_16 : decode cX0_restore 16 = .ok (.iconst 2, 1) := dk_5 (dk_at dksX0_restore_0 16 rfl rfl)
theorem dX0_restore_17 : decode cX0_restore 17 = .ok (.ireturn, 1) := dk_172 (dk_at dksX0_restore_0 17 rfl rfl)
theorem dX0_restore_18 : decode cX0_restore 18 = .ok (.iconst 0, 1) := dk_3 (dk_at dksX0_restore_0 18 rfl rfl)
theorem dX0_restore_19 : decode cX0_restore 19 = .ok (.ireturn, 1) := dk_172 (dk_at dksX0_restore_0 19 rfl rfl)
theorem q132 : (Jvm.Cond.initialized "VotingHutsLaw") ∈ lw_all := lw_g (lw_at lw_m1 0 rfl) rfl
theorem q170 : (Jvm.Cond.classLink "VotingHutsLaw" (8 : Nat) "VotingHuts") ∈ lw_all := lw_g (lw_at lw_m1 38 rfl) rfl
theorem q172 : (Jvm.Cond.methodLink "VotingHutsLaw" (202 : Nat) ({ cls := "VotingHuts", name := "<init>", desc := "()V" } : Jvm.MethodName)) ∈ lw_all := lw_g (lw_at lw_m1 40 rfl) rfl
theorem q260 : (Jvm.Cond.methodLink "VotingHutsLaw" (206 : Nat) ({ cls := "VotingHuts", name := "append", desc := "(IIIII)I" } : Jvm.MethodName)) ∈ lw_all := lw_g (lw_at lw_m1 128 rfl) rfl
theorem q265 : (Jvm.Cond.methodLink "VotingHutsLaw" (219 : Nat) ({ cls := "VotingHuts", name := "parseError", desc := "()I" } : Jvm.MethodName)) ∈ lw_all := lw_g (lw_at lw_m1 133 rfl) rfl
theorem q269 : (Jvm.Cond.methodLink "VotingHutsLaw" (223 : Nat) ({ cls := "VotingHuts", name := "errorPosition", desc := "()I" } : Jvm.MethodName)) ∈ lw_all := lw_g (lw_at lw_m1 137 rfl) rfl
theorem q273 : (Jvm.Cond.methodLink "VotingHutsLaw" (227 : Nat) ({ cls := "VotingHuts", name := "buffered", desc := "()I" } : Jvm.MethodName)) ∈ lw_all := lw_g (lw_at lw_m1 141 rfl) rfl
theorem q277 : (Jvm.Cond.methodLink "VotingHutsLaw" (405 : Nat) ({ cls := "VotingHuts", name := "undoable", desc := "()I" } : Jvm.MethodName)) ∈ lw_all := lw_g (lw_at lw_m1 145 rfl) rfl
theorem q288 : (Jvm.Cond.methodLink "VotingHutsLaw" (210 : Nat) ({ cls := "VotingHutsLaw", name := "load", desc := "(LVotingHuts;I[J)I" } : Jvm.MethodName)) ∈ lw_all := lw_g (lw_at lw_m1 156 rfl) rfl
theorem q289 : (Jvm.Cond.static ({ cls := "VotingHutsLaw", name := "load", desc := "(LVotingHuts;I[J)I" } : Jvm.MethodName)) ∈ lw_all := lw_g (lw_at lw_m1 157 rfl) rfl
theorem q290 : (Jvm.Cond.codeWith ({ cls := "VotingHutsLaw", name := "load", desc := "(LVotingHuts;I[J)I" } : Jvm.MethodName) method_3_code (4 : Nat) (Option.some Jvm.ClassFile.FieldType.int) [((0 : Nat), (9 : Nat), (12 : Nat), (13 : Nat)), ((0 : Nat), (9 : Nat), (15 : Nat), (15 : Nat))]) ∈ lw_all := lw_g (lw_at lw_m1 158 rfl) rfl
theorem q291 : (Jvm.Cond.classLink "VotingHutsLaw" (13 : Nat) "java/lang/IndexOutOfBoundsException") ∈ lw_all := lw_g (lw_at lw_m1 159 rfl) rfl
theorem q369 : (Jvm.Cond.classLink "VotingHutsLaw" (15 : Nat) "java/lang/IllegalArgumentException") ∈ lw_all := lw_g (lw_at lw_m1 237 rfl) rfl
theorem q370 : (Jvm.Cond.methodLink "VotingHutsLaw" (7 : Nat) ({ cls := "VotingHuts", name := "load", desc := "(I)I" } : Jvm.MethodName)) ∈ lw_all := lw_g (lw_at lw_m1 238 rfl) rfl
theorem q1337 : (Jvm.Cond.methodLink "VotingHutsLaw" (231 : Nat) ({ cls := "VotingHutsLaw", name := "count", desc := "(LVotingHuts;I[J)I" } : Jvm.MethodName)) ∈ lw_all := lw_g (lw_at lw_m6 5 rfl) rfl
theorem q1338 : (Jvm.Cond.static ({ cls := "VotingHutsLaw", name := "count", desc := "(LVotingHuts;I[J)I" } : Jvm.MethodName)) ∈ lw_all := lw_g (lw_at lw_m6 6 rfl) rfl
theorem q1339 : (Jvm.Cond.codeWith ({ cls := "VotingHutsLaw", name := "count", desc := "(LVotingHuts;I[J)I" } : Jvm.MethodName) method_4_code (4 : Nat) (Option.some Jvm.ClassFile.FieldType.int) [((0 : Nat), (9 : Nat), (12 : Nat), (20 : Nat)), ((0 : Nat), (9 : Nat), (15 : Nat), (15 : Nat))]) ∈ lw_all := lw_g (lw_at lw_m6 7 rfl) rfl
theorem q1340 : (Jvm.Cond.classLink "VotingHutsLaw" (20 : Nat) "java/lang/IllegalStateException") ∈ lw_all := lw_g (lw_at lw_m6 8 rfl) rfl
theorem q1341 : (Jvm.Cond.methodLink "VotingHutsLaw" (17 : Nat) ({ cls := "VotingHuts", name := "count", desc := "(I)I" } : Jvm.MethodName)) ∈ lw_all := lw_g (lw_at lw_m6 9 rfl) rfl
theorem q1376 : (Jvm.Cond.methodLink "VotingHutsLaw" (234 : Nat) ({ cls := "VotingHutsLaw", name := "wire", desc := "(LVotingHuts;IIII[J)I" } : Jvm.MethodName)) ∈ lw_all := lw_g (lw_at lw_m6 44 rfl) rfl
theorem q1377 : (Jvm.Cond.static ({ cls := "VotingHutsLaw", name := "wire", desc := "(LVotingHuts;IIII[J)I" } : Jvm.MethodName)) ∈ lw_all := lw_g (lw_at lw_m6 45 rfl) rfl
theorem q1378 : (Jvm.Cond.codeWith ({ cls := "VotingHutsLaw", name := "wire", desc := "(LVotingHuts;IIII[J)I" } : Jvm.MethodName) method_5_code (7 : Nat) (Option.some Jvm.ClassFile.FieldType.int) [((0 : Nat), (14 : Nat), (17 : Nat), (20 : Nat)), ((0 : Nat), (14 : Nat), (21 : Nat), (13 : Nat)), ((0 : Nat), (14 : Nat), (25 : Nat), (15 : Nat))]) ∈ lw_all := lw_g (lw_at lw_m6 46 rfl) rfl
theorem q1379 : (Jvm.Cond.methodLink "VotingHutsLaw" (22 : Nat) ({ cls := "VotingHuts", name := "wire", desc := "(IIII)I" } : Jvm.MethodName)) ∈ lw_all := lw_g (lw_at lw_m6 47 rfl) rfl
theorem q1389 : (Jvm.Cond.methodLink "VotingHutsLaw" (238 : Nat) ({ cls := "VotingHutsLaw", name := "garbles", desc := "(LVotingHuts;IIIII[J)I" } : Jvm.MethodName)) ∈ lw_all := lw_g (lw_at lw_m6 57 rfl) rfl
theorem q1390 : (Jvm.Cond.static ({ cls := "VotingHutsLaw", name := "garbles", desc := "(LVotingHuts;IIIII[J)I" } : Jvm.MethodName)) ∈ lw_all := lw_g (lw_at lw_m6 58 rfl) rfl
theorem q1391 : (Jvm.Cond.codeWith ({ cls := "VotingHutsLaw", name := "garbles", desc := "(LVotingHuts;IIIII[J)I" } : Jvm.MethodName) method_6_code (8 : Nat) (Option.some Jvm.ClassFile.FieldType.int) [((0 : Nat), (23 : Nat), (26 : Nat), (20 : Nat)), ((0 : Nat), (23 : Nat), (30 : Nat), (13 : Nat)), ((0 : Nat), (23 : Nat), (34 : Nat), (15 : Nat))]) ∈ lw_all := lw_g (lw_at lw_m6 59 rfl) rfl
theorem q1392 : (Jvm.Cond.methodLink "VotingHutsLaw" (26 : Nat) ({ cls := "VotingHuts", name := "garbles", desc := "(IIIII)Z" } : Jvm.MethodName)) ∈ lw_all := lw_g (lw_at lw_m6 60 rfl) rfl
theorem q1398 : (Jvm.Cond.methodLink "VotingHutsLaw" (242 : Nat) ({ cls := "VotingHutsLaw", name := "comes", desc := "(LVotingHuts;IIIII[J)I" } : Jvm.MethodName)) ∈ lw_all := lw_g (lw_at lw_m6 66 rfl) rfl
theorem q1399 : (Jvm.Cond.static ({ cls := "VotingHutsLaw", name := "comes", desc := "(LVotingHuts;IIIII[J)I" } : Jvm.MethodName)) ∈ lw_all := lw_g (lw_at lw_m6 67 rfl) rfl
theorem q1400 : (Jvm.Cond.codeWith ({ cls := "VotingHutsLaw", name := "comes", desc := "(LVotingHuts;IIIII[J)I" } : Jvm.MethodName) method_7_code (8 : Nat) (Option.some Jvm.ClassFile.FieldType.int) [((0 : Nat), (16 : Nat), (19 : Nat), (20 : Nat)), ((0 : Nat), (16 : Nat), (23 : Nat), (13 : Nat)), ((0 : Nat), (16 : Nat), (27 : Nat), (15 : Nat))]) ∈ lw_all := lw_g (lw_at lw_m6 68 rfl) rfl
theorem q1401 : (Jvm.Cond.methodLink "VotingHutsLaw" (30 : Nat) ({ cls := "VotingHuts", name := "comes", desc := "(IIIII)I" } : Jvm.MethodName)) ∈ lw_all := lw_g (lw_at lw_m6 69 rfl) rfl
theorem q1407 : (Jvm.Cond.methodLink "VotingHutsLaw" (245 : Nat) ({ cls := "VotingHutsLaw", name := "worstWire", desc := "(LVotingHuts;[J)I" } : Jvm.MethodName)) ∈ lw_all := lw_g (lw_at lw_m6 75 rfl) rfl
theorem q1408 : (Jvm.Cond.static ({ cls := "VotingHutsLaw", name := "worstWire", desc := "(LVotingHuts;[J)I" } : Jvm.MethodName)) ∈ lw_all := lw_g (lw_at lw_m6 76 rfl) rfl
theorem q1409 : (Jvm.Cond.codeWith ({ cls := "VotingHutsLaw", name := "worstWire", desc := "(LVotingHuts;[J)I" } : Jvm.MethodName) method_8_code (3 : Nat) (Option.some Jvm.ClassFile.FieldType.int) [((0 : Nat), (8 : Nat), (11 : Nat), (20 : Nat))]) ∈ lw_all := lw_g (lw_at lw_m6 77 rfl) rfl
theorem q1410 : (Jvm.Cond.methodLink "VotingHutsLaw" (34 : Nat) ({ cls := "VotingHuts", name := "worstWire", desc := "()I" } : Jvm.MethodName)) ∈ lw_all := lw_g (lw_at lw_m6 78 rfl) rfl
theorem q1418 : (Jvm.Cond.methodLink "VotingHutsLaw" (249 : Nat) ({ cls := "VotingHutsLaw", name := "stormyWires", desc := "(LVotingHuts;II[J)I" } : Jvm.MethodName)) ∈ lw_all := lw_g (lw_at lw_m6 86 rfl) rfl
theorem q1419 : (Jvm.Cond.static ({ cls := "VotingHutsLaw", name := "stormyWires", desc := "(LVotingHuts;II[J)I" } : Jvm.MethodName)) ∈ lw_all := lw_g (lw_at lw_m6 87 rfl) rfl
theorem q1420 : (Jvm.Cond.codeWith ({ cls := "VotingHutsLaw", name := "stormyWires", desc := "(LVotingHuts;II[J)I" } : Jvm.MethodName) method_9_code (5 : Nat) (Option.some Jvm.ClassFile.FieldType.int) [((0 : Nat), (10 : Nat), (13 : Nat), (20 : Nat)), ((0 : Nat), (10 : Nat), (17 : Nat), (15 : Nat))]) ∈ lw_all := lw_g (lw_at lw_m6 88 rfl) rfl
theorem q1421 : (Jvm.Cond.methodLink "VotingHutsLaw" (38 : Nat) ({ cls := "VotingHuts", name := "stormyWires", desc := "(II)I" } : Jvm.MethodName)) ∈ lw_all := lw_g (lw_at lw_m6 89 rfl) rfl
theorem q1429 : (Jvm.Cond.methodLink "VotingHutsLaw" (253 : Nat) ({ cls := "VotingHutsLaw", name := "calmest", desc := "(LVotingHuts;I[J)I" } : Jvm.MethodName)) ∈ lw_all := lw_g (lw_at lw_m6 97 rfl) rfl
theorem q1430 : (Jvm.Cond.static ({ cls := "VotingHutsLaw", name := "calmest", desc := "(LVotingHuts;I[J)I" } : Jvm.MethodName)) ∈ lw_all := lw_g (lw_at lw_m6 98 rfl) rfl
theorem q1431 : (Jvm.Cond.codeWith ({ cls := "VotingHutsLaw", name := "calmest", desc := "(LVotingHuts;I[J)I" } : Jvm.MethodName) method_10_code (4 : Nat) (Option.some Jvm.ClassFile.FieldType.int) [((0 : Nat), (9 : Nat), (12 : Nat), (20 : Nat)), ((0 : Nat), (9 : Nat), (15 : Nat), (15 : Nat))]) ∈ lw_all := lw_g (lw_at lw_m6 99 rfl) rfl
theorem q1432 : (Jvm.Cond.methodLink "VotingHutsLaw" (42 : Nat) ({ cls := "VotingHuts", name := "calmest", desc := "(I)I" } : Jvm.MethodName)) ∈ lw_all := lw_g (lw_at lw_m6 100 rfl) rfl
theorem q1442 : (Jvm.Cond.methodLink "VotingHutsLaw" (256 : Nat) ({ cls := "VotingHutsLaw", name := "stormyHours", desc := "(LVotingHuts;IIII[J)I" } : Jvm.MethodName)) ∈ lw_all := lw_g (lw_at lw_m6 110 rfl) rfl
theorem q1443 : (Jvm.Cond.static ({ cls := "VotingHutsLaw", name := "stormyHours", desc := "(LVotingHuts;IIII[J)I" } : Jvm.MethodName)) ∈ lw_all := lw_g (lw_at lw_m6 111 rfl) rfl
theorem q1444 : (Jvm.Cond.codeWith ({ cls := "VotingHutsLaw", name := "stormyHours", desc := "(LVotingHuts;IIII[J)I" } : Jvm.MethodName) method_11_code (7 : Nat) (Option.some Jvm.ClassFile.FieldType.int) [((0 : Nat), (14 : Nat), (17 : Nat), (20 : Nat)), ((0 : Nat), (14 : Nat), (21 : Nat), (13 : Nat)), ((0 : Nat), (14 : Nat), (25 : Nat), (15 : Nat))]) ∈ lw_all := lw_g (lw_at lw_m6 112 rfl) rfl
theorem q1445 : (Jvm.Cond.methodLink "VotingHutsLaw" (45 : Nat) ({ cls := "VotingHuts", name := "stormyHours", desc := "(IIII)I" } : Jvm.MethodName)) ∈ lw_all := lw_g (lw_at lw_m6 113 rfl) rfl
theorem q1449 : (Jvm.Cond.methodLink "VotingHutsLaw" (259 : Nat) ({ cls := "VotingHutsLaw", name := "message", desc := "(LVotingHuts;II[J)I" } : Jvm.MethodName)) ∈ lw_all := lw_g (lw_at lw_m6 117 rfl) rfl
theorem q1450 : (Jvm.Cond.static ({ cls := "VotingHutsLaw", name := "message", desc := "(LVotingHuts;II[J)I" } : Jvm.MethodName)) ∈ lw_all := lw_g (lw_at lw_m6 118 rfl) rfl
theorem q1451 : (Jvm.Cond.codeWith ({ cls := "VotingHutsLaw", name := "message", desc := "(LVotingHuts;II[J)I" } : Jvm.MethodName) method_12_code (5 : Nat) (Option.some Jvm.ClassFile.FieldType.int) [((0 : Nat), (10 : Nat), (13 : Nat), (20 : Nat)), ((0 : Nat), (10 : Nat), (17 : Nat), (13 : Nat)), ((0 : Nat), (10 : Nat), (21 : Nat), (15 : Nat))]) ∈ lw_all := lw_g (lw_at lw_m6 119 rfl) rfl
theorem q1452 : (Jvm.Cond.methodLink "VotingHutsLaw" (48 : Nat) ({ cls := "VotingHuts", name := "message", desc := "(II)I" } : Jvm.MethodName)) ∈ lw_all := lw_g (lw_at lw_m6 120 rfl) rfl
theorem q1467 : (Jvm.Cond.methodLink "VotingHutsLaw" (262 : Nat) ({ cls := "VotingHutsLaw", name := "digit", desc := "(LVotingHuts;II[J)I" } : Jvm.MethodName)) ∈ lw_all := lw_g (lw_at lw_m6 135 rfl) rfl
theorem q1468 : (Jvm.Cond.static ({ cls := "VotingHutsLaw", name := "digit", desc := "(LVotingHuts;II[J)I" } : Jvm.MethodName)) ∈ lw_all := lw_g (lw_at lw_m6 136 rfl) rfl
theorem q1469 : (Jvm.Cond.codeWith ({ cls := "VotingHutsLaw", name := "digit", desc := "(LVotingHuts;II[J)I" } : Jvm.MethodName) method_13_code (5 : Nat) (Option.some Jvm.ClassFile.FieldType.int) [((0 : Nat), (10 : Nat), (13 : Nat), (20 : Nat)), ((0 : Nat), (10 : Nat), (17 : Nat), (13 : Nat))]) ∈ lw_all := lw_g (lw_at lw_m6 137 rfl) rfl
theorem q1470 : (Jvm.Cond.methodLink "VotingHutsLaw" (51 : Nat) ({ cls := "VotingHuts", name := "digit", desc := "(II)I" } : Jvm.MethodName)) ∈ lw_all := lw_g (lw_at lw_m6 138 rfl) rfl
theorem q1478 : (Jvm.Cond.methodLink "VotingHutsLaw" (265 : Nat) ({ cls := "VotingHutsLaw", name := "has", desc := "(LVotingHuts;III[J)I" } : Jvm.MethodName)) ∈ lw_all := lw_g (lw_at lw_m6 146 rfl) rfl
theorem q1479 : (Jvm.Cond.static ({ cls := "VotingHutsLaw", name := "has", desc := "(LVotingHuts;III[J)I" } : Jvm.MethodName)) ∈ lw_all := lw_g (lw_at lw_m6 147 rfl) rfl
theorem q1480 : (Jvm.Cond.codeWith ({ cls := "VotingHutsLaw", name := "has", desc := "(LVotingHuts;III[J)I" } : Jvm.MethodName) method_14_code (6 : Nat) (Option.some Jvm.ClassFile.FieldType.int) [((0 : Nat), (12 : Nat), (15 : Nat), (20 : Nat)), ((0 : Nat), (12 : Nat), (19 : Nat), (13 : Nat))]) ∈ lw_all := lw_g (lw_at lw_m6 148 rfl) rfl
theorem q1481 : (Jvm.Cond.methodLink "VotingHutsLaw" (54 : Nat) ({ cls := "VotingHuts", name := "has", desc := "(III)I" } : Jvm.MethodName)) ∈ lw_all := lw_g (lw_at lw_m6 149 rfl) rfl
theorem q1493 : (Jvm.Cond.methodLink "VotingHutsLaw" (269 : Nat) ({ cls := "VotingHutsLaw", name := "copy", desc := "(LVotingHuts;IIII[J)I" } : Jvm.MethodName)) ∈ lw_all := lw_g (lw_at lw_m6 161 rfl) rfl
theorem q1494 : (Jvm.Cond.static ({ cls := "VotingHutsLaw", name := "copy", desc := "(LVotingHuts;IIII[J)I" } : Jvm.MethodName)) ∈ lw_all := lw_g (lw_at lw_m6 162 rfl) rfl
theorem q1495 : (Jvm.Cond.codeWith ({ cls := "VotingHutsLaw", name := "copy", desc := "(LVotingHuts;IIII[J)I" } : Jvm.MethodName) method_15_code (7 : Nat) (Option.some Jvm.ClassFile.FieldType.int) [((0 : Nat), (14 : Nat), (17 : Nat), (20 : Nat)), ((0 : Nat), (14 : Nat), (21 : Nat), (13 : Nat))]) ∈ lw_all := lw_g (lw_at lw_m6 163 rfl) rfl
theorem q1496 : (Jvm.Cond.methodLink "VotingHutsLaw" (58 : Nat) ({ cls := "VotingHuts", name := "copy", desc := "(IIII)I" } : Jvm.MethodName)) ∈ lw_all := lw_g (lw_at lw_m6 164 rfl) rfl
theorem q1501 : (Jvm.Cond.methodLink "VotingHutsLaw" (272 : Nat) ({ cls := "VotingHutsLaw", name := "vote", desc := "(LVotingHuts;III[J)I" } : Jvm.MethodName)) ∈ lw_all := lw_g (lw_at lw_m6 169 rfl) rfl
theorem q1502 : (Jvm.Cond.static ({ cls := "VotingHutsLaw", name := "vote", desc := "(LVotingHuts;III[J)I" } : Jvm.MethodName)) ∈ lw_all := lw_g (lw_at lw_m6 170 rfl) rfl
theorem q1503 : (Jvm.Cond.codeWith ({ cls := "VotingHutsLaw", name := "vote", desc := "(LVotingHuts;III[J)I" } : Jvm.MethodName) method_16_code (6 : Nat) (Option.some Jvm.ClassFile.FieldType.int) [((0 : Nat), (12 : Nat), (15 : Nat), (20 : Nat)), ((0 : Nat), (12 : Nat), (19 : Nat), (13 : Nat))]) ∈ lw_all := lw_g (lw_at lw_m6 171 rfl) rfl
theorem q1504 : (Jvm.Cond.methodLink "VotingHutsLaw" (61 : Nat) ({ cls := "VotingHuts", name := "vote", desc := "(III)I" } : Jvm.MethodName)) ∈ lw_all := lw_g (lw_at lw_m6 172 rfl) rfl
theorem q1512 : (Jvm.Cond.methodLink "VotingHutsLaw" (275 : Nat) ({ cls := "VotingHutsLaw", name := "unsure", desc := "(LVotingHuts;II[J)I" } : Jvm.MethodName)) ∈ lw_all := lw_g (lw_at lw_m6 180 rfl) rfl
theorem q1513 : (Jvm.Cond.static ({ cls := "VotingHutsLaw", name := "unsure", desc := "(LVotingHuts;II[J)I" } : Jvm.MethodName)) ∈ lw_all := lw_g (lw_at lw_m6 181 rfl) rfl
theorem q1514 : (Jvm.Cond.codeWith ({ cls := "VotingHutsLaw", name := "unsure", desc := "(LVotingHuts;II[J)I" } : Jvm.MethodName) method_17_code (5 : Nat) (Option.some Jvm.ClassFile.FieldType.int) [((0 : Nat), (10 : Nat), (13 : Nat), (20 : Nat)), ((0 : Nat), (10 : Nat), (17 : Nat), (13 : Nat))]) ∈ lw_all := lw_g (lw_at lw_m6 182 rfl) rfl
theorem q1515 : (Jvm.Cond.methodLink "VotingHutsLaw" (64 : Nat) ({ cls := "VotingHuts", name := "unsure", desc := "(II)I" } : Jvm.MethodName)) ∈ lw_all := lw_g (lw_at lw_m6 183 rfl) rfl
theorem q1520 : (Jvm.Cond.methodLink "VotingHutsLaw" (278 : Nat) ({ cls := "VotingHutsLaw", name := "wrong", desc := "(LVotingHuts;II[J)I" } : Jvm.MethodName)) ∈ lw_all := lw_g (lw_at lw_m6 188 rfl) rfl
theorem q1521 : (Jvm.Cond.static ({ cls := "VotingHutsLaw", name := "wrong", desc := "(LVotingHuts;II[J)I" } : Jvm.MethodName)) ∈ lw_all := lw_g (lw_at lw_m6 189 rfl) rfl
theorem q1522 : (Jvm.Cond.codeWith ({ cls := "VotingHutsLaw", name := "wrong", desc := "(LVotingHuts;II[J)I" } : Jvm.MethodName) method_18_code (5 : Nat) (Option.some Jvm.ClassFile.FieldType.int) [((0 : Nat), (10 : Nat), (13 : Nat), (20 : Nat)), ((0 : Nat), (10 : Nat), (17 : Nat), (13 : Nat))]) ∈ lw_all := lw_g (lw_at lw_m6 190 rfl) rfl
theorem q1523 : (Jvm.Cond.methodLink "VotingHutsLaw" (67 : Nat) ({ cls := "VotingHuts", name := "wrong", desc := "(II)I" } : Jvm.MethodName)) ∈ lw_all := lw_g (lw_at lw_m6 191 rfl) rfl
theorem q1527 : (Jvm.Cond.methodLink "VotingHutsLaw" (281 : Nat) ({ cls := "VotingHutsLaw", name := "believed", desc := "(LVotingHuts;II[J)I" } : Jvm.MethodName)) ∈ lw_all := lw_g (lw_at lw_m6 195 rfl) rfl
theorem q1528 : (Jvm.Cond.static ({ cls := "VotingHutsLaw", name := "believed", desc := "(LVotingHuts;II[J)I" } : Jvm.MethodName)) ∈ lw_all := lw_g (lw_at lw_m6 196 rfl) rfl
theorem q1529 : (Jvm.Cond.codeWith ({ cls := "VotingHutsLaw", name := "believed", desc := "(LVotingHuts;II[J)I" } : Jvm.MethodName) method_19_code (5 : Nat) (Option.some Jvm.ClassFile.FieldType.int) [((0 : Nat), (10 : Nat), (13 : Nat), (20 : Nat)), ((0 : Nat), (10 : Nat), (17 : Nat), (13 : Nat))]) ∈ lw_all := lw_g (lw_at lw_m6 197 rfl) rfl
theorem q1530 : (Jvm.Cond.methodLink "VotingHutsLaw" (70 : Nat) ({ cls := "VotingHuts", name := "believed", desc := "(II)I" } : Jvm.MethodName)) ∈ lw_all := lw_g (lw_at lw_m6 198 rfl) rfl
theorem q1538 : (Jvm.Cond.methodLink "VotingHutsLaw" (284 : Nat) ({ cls := "VotingHutsLaw", name := "right", desc := "(LVotingHuts;I[J)I" } : Jvm.MethodName)) ∈ lw_all := lw_g (lw_at lw_m6 206 rfl) rfl
theorem q1539 : (Jvm.Cond.static ({ cls := "VotingHutsLaw", name := "right", desc := "(LVotingHuts;I[J)I" } : Jvm.MethodName)) ∈ lw_all := lw_g (lw_at lw_m6 207 rfl) rfl
theorem q1540 : (Jvm.Cond.codeWith ({ cls := "VotingHutsLaw", name := "right", desc := "(LVotingHuts;I[J)I" } : Jvm.MethodName) method_20_code (4 : Nat) (Option.some Jvm.ClassFile.FieldType.int) [((0 : Nat), (9 : Nat), (12 : Nat), (20 : Nat)), ((0 : Nat), (9 : Nat), (15 : Nat), (13 : Nat))]) ∈ lw_all := lw_g (lw_at lw_m6 208 rfl) rfl
theorem q1541 : (Jvm.Cond.methodLink "VotingHutsLaw" (73 : Nat) ({ cls := "VotingHuts", name := "right", desc := "(I)I" } : Jvm.MethodName)) ∈ lw_all := lw_g (lw_at lw_m6 209 rfl) rfl
theorem q1550 : (Jvm.Cond.methodLink "VotingHutsLaw" (287 : Nat) ({ cls := "VotingHutsLaw", name := "liar", desc := "(LVotingHuts;I[J)I" } : Jvm.MethodName)) ∈ lw_all := lw_g (lw_at lw_m6 218 rfl) rfl
theorem q1551 : (Jvm.Cond.static ({ cls := "VotingHutsLaw", name := "liar", desc := "(LVotingHuts;I[J)I" } : Jvm.MethodName)) ∈ lw_all := lw_g (lw_at lw_m6 219 rfl) rfl
theorem q1552 : (Jvm.Cond.codeWith ({ cls := "VotingHutsLaw", name := "liar", desc := "(LVotingHuts;I[J)I" } : Jvm.MethodName) method_21_code (4 : Nat) (Option.some Jvm.ClassFile.FieldType.int) [((0 : Nat), (9 : Nat), (12 : Nat), (20 : Nat)), ((0 : Nat), (9 : Nat), (15 : Nat), (13 : Nat))]) ∈ lw_all := lw_g (lw_at lw_m6 220 rfl) rfl
theorem q1553 : (Jvm.Cond.methodLink "VotingHutsLaw" (76 : Nat) ({ cls := "VotingHuts", name := "liar", desc := "(I)I" } : Jvm.MethodName)) ∈ lw_all := lw_g (lw_at lw_m6 221 rfl) rfl
theorem q1561 : (Jvm.Cond.methodLink "VotingHutsLaw" (290 : Nat) ({ cls := "VotingHutsLaw", name := "firstWrong", desc := "(LVotingHuts;I[J)I" } : Jvm.MethodName)) ∈ lw_all := lw_g (lw_at lw_m6 229 rfl) rfl
theorem q1562 : (Jvm.Cond.static ({ cls := "VotingHutsLaw", name := "firstWrong", desc := "(LVotingHuts;I[J)I" } : Jvm.MethodName)) ∈ lw_all := lw_g (lw_at lw_m6 230 rfl) rfl
theorem q1563 : (Jvm.Cond.codeWith ({ cls := "VotingHutsLaw", name := "firstWrong", desc := "(LVotingHuts;I[J)I" } : Jvm.MethodName) method_22_code (4 : Nat) (Option.some Jvm.ClassFile.FieldType.int) [((0 : Nat), (9 : Nat), (12 : Nat), (20 : Nat)), ((0 : Nat), (9 : Nat), (15 : Nat), (13 : Nat))]) ∈ lw_all := lw_g (lw_at lw_m6 231 rfl) rfl
theorem q1564 : (Jvm.Cond.methodLink "VotingHutsLaw" (79 : Nat) ({ cls := "VotingHuts", name := "firstWrong", desc := "(I)I" } : Jvm.MethodName)) ∈ lw_all := lw_g (lw_at lw_m6 232 rfl) rfl
theorem q1572 : (Jvm.Cond.methodLink "VotingHutsLaw" (293 : Nat) ({ cls := "VotingHutsLaw", name := "doubtful", desc := "(LVotingHuts;I[J)I" } : Jvm.MethodName)) ∈ lw_all := lw_g (lw_at lw_m7 0 rfl) rfl
theorem q1573 : (Jvm.Cond.static ({ cls := "VotingHutsLaw", name := "doubtful", desc := "(LVotingHuts;I[J)I" } : Jvm.MethodName)) ∈ lw_all := lw_g (lw_at lw_m7 1 rfl) rfl
theorem q1574 : (Jvm.Cond.codeWith ({ cls := "VotingHutsLaw", name := "doubtful", desc := "(LVotingHuts;I[J)I" } : Jvm.MethodName) method_23_code (4 : Nat) (Option.some Jvm.ClassFile.FieldType.int) [((0 : Nat), (9 : Nat), (12 : Nat), (20 : Nat)), ((0 : Nat), (9 : Nat), (15 : Nat), (13 : Nat))]) ∈ lw_all := lw_g (lw_at lw_m7 2 rfl) rfl
theorem q1575 : (Jvm.Cond.methodLink "VotingHutsLaw" (82 : Nat) ({ cls := "VotingHuts", name := "doubtful", desc := "(I)I" } : Jvm.MethodName)) ∈ lw_all := lw_g (lw_at lw_m7 3 rfl) rfl
theorem q1583 : (Jvm.Cond.methodLink "VotingHutsLaw" (296 : Nat) ({ cls := "VotingHutsLaw", name := "agreeing", desc := "(LVotingHuts;I[J)I" } : Jvm.MethodName)) ∈ lw_all := lw_g (lw_at lw_m7 11 rfl) rfl
theorem q1584 : (Jvm.Cond.static ({ cls := "VotingHutsLaw", name := "agreeing", desc := "(LVotingHuts;I[J)I" } : Jvm.MethodName)) ∈ lw_all := lw_g (lw_at lw_m7 12 rfl) rfl
theorem q1585 : (Jvm.Cond.codeWith ({ cls := "VotingHutsLaw", name := "agreeing", desc := "(LVotingHuts;I[J)I" } : Jvm.MethodName) method_24_code (4 : Nat) (Option.some Jvm.ClassFile.FieldType.int) [((0 : Nat), (9 : Nat), (12 : Nat), (20 : Nat)), ((0 : Nat), (9 : Nat), (15 : Nat), (13 : Nat))]) ∈ lw_all := lw_g (lw_at lw_m7 13 rfl) rfl
theorem q1586 : (Jvm.Cond.methodLink "VotingHutsLaw" (85 : Nat) ({ cls := "VotingHuts", name := "agreeing", desc := "(I)I" } : Jvm.MethodName)) ∈ lw_all := lw_g (lw_at lw_m7 14 rfl) rfl
theorem q1598 : (Jvm.Cond.methodLink "VotingHutsLaw" (299 : Nat) ({ cls := "VotingHutsLaw", name := "oldest", desc := "(LVotingHuts;[J)I" } : Jvm.MethodName)) ∈ lw_all := lw_g (lw_at lw_m7 26 rfl) rfl
theorem q1599 : (Jvm.Cond.static ({ cls := "VotingHutsLaw", name := "oldest", desc := "(LVotingHuts;[J)I" } : Jvm.MethodName)) ∈ lw_all := lw_g (lw_at lw_m7 27 rfl) rfl
theorem q1600 : (Jvm.Cond.codeWith ({ cls := "VotingHutsLaw", name := "oldest", desc := "(LVotingHuts;[J)I" } : Jvm.MethodName) method_25_code (3 : Nat) (Option.some Jvm.ClassFile.FieldType.int) [((0 : Nat), (8 : Nat), (11 : Nat), (20 : Nat))]) ∈ lw_all := lw_g (lw_at lw_m7 28 rfl) rfl
theorem q1601 : (Jvm.Cond.methodLink "VotingHutsLaw" (88 : Nat) ({ cls := "VotingHuts", name := "oldest", desc := "()I" } : Jvm.MethodName)) ∈ lw_all := lw_g (lw_at lw_m7 29 rfl) rfl
theorem q1605 : (Jvm.Cond.methodLink "VotingHutsLaw" (302 : Nat) ({ cls := "VotingHutsLaw", name := "next", desc := "(LVotingHuts;I[J)I" } : Jvm.MethodName)) ∈ lw_all := lw_g (lw_at lw_m7 33 rfl) rfl
theorem q1606 : (Jvm.Cond.static ({ cls := "VotingHutsLaw", name := "next", desc := "(LVotingHuts;I[J)I" } : Jvm.MethodName)) ∈ lw_all := lw_g (lw_at lw_m7 34 rfl) rfl
theorem q1607 : (Jvm.Cond.codeWith ({ cls := "VotingHutsLaw", name := "next", desc := "(LVotingHuts;I[J)I" } : Jvm.MethodName) method_26_code (4 : Nat) (Option.some Jvm.ClassFile.FieldType.int) [((0 : Nat), (9 : Nat), (12 : Nat), (20 : Nat)), ((0 : Nat), (9 : Nat), (15 : Nat), (13 : Nat))]) ∈ lw_all := lw_g (lw_at lw_m7 35 rfl) rfl
theorem q1608 : (Jvm.Cond.methodLink "VotingHutsLaw" (91 : Nat) ({ cls := "VotingHuts", name := "next", desc := "(I)I" } : Jvm.MethodName)) ∈ lw_all := lw_g (lw_at lw_m7 36 rfl) rfl
theorem q1613 : (Jvm.Cond.methodLink "VotingHutsLaw" (305 : Nat) ({ cls := "VotingHutsLaw", name := "gap", desc := "(LVotingHuts;[J)I" } : Jvm.MethodName)) ∈ lw_all := lw_g (lw_at lw_m7 41 rfl) rfl
theorem q1614 : (Jvm.Cond.static ({ cls := "VotingHutsLaw", name := "gap", desc := "(LVotingHuts;[J)I" } : Jvm.MethodName)) ∈ lw_all := lw_g (lw_at lw_m7 42 rfl) rfl
theorem q1615 : (Jvm.Cond.codeWith ({ cls := "VotingHutsLaw", name := "gap", desc := "(LVotingHuts;[J)I" } : Jvm.MethodName) method_27_code (3 : Nat) (Option.some Jvm.ClassFile.FieldType.int) [((0 : Nat), (8 : Nat), (11 : Nat), (20 : Nat))]) ∈ lw_all := lw_g (lw_at lw_m7 43 rfl) rfl
theorem q1616 : (Jvm.Cond.methodLink "VotingHutsLaw" (94 : Nat) ({ cls := "VotingHuts", name := "gap", desc := "()I" } : Jvm.MethodName)) ∈ lw_all := lw_g (lw_at lw_m7 44 rfl) rfl
theorem q1635 : (Jvm.Cond.methodLink "VotingHutsLaw" (308 : Nat) ({ cls := "VotingHutsLaw", name := "logged", desc := "(LVotingHuts;II[J)I" } : Jvm.MethodName)) ∈ lw_all := lw_g (lw_at lw_m7 63 rfl) rfl
theorem q1636 : (Jvm.Cond.static ({ cls := "VotingHutsLaw", name := "logged", desc := "(LVotingHuts;II[J)I" } : Jvm.MethodName)) ∈ lw_all := lw_g (lw_at lw_m7 64 rfl) rfl
theorem q1637 : (Jvm.Cond.codeWith ({ cls := "VotingHutsLaw", name := "logged", desc := "(LVotingHuts;II[J)I" } : Jvm.MethodName) method_28_code (5 : Nat) (Option.some Jvm.ClassFile.FieldType.int) [((0 : Nat), (10 : Nat), (13 : Nat), (20 : Nat)), ((0 : Nat), (10 : Nat), (17 : Nat), (15 : Nat))]) ∈ lw_all := lw_g (lw_at lw_m7 65 rfl) rfl
theorem q1638 : (Jvm.Cond.methodLink "VotingHutsLaw" (97 : Nat) ({ cls := "VotingHuts", name := "logged", desc := "(II)I" } : Jvm.MethodName)) ∈ lw_all := lw_g (lw_at lw_m7 66 rfl) rfl
theorem q1650 : (Jvm.Cond.methodLink "VotingHutsLaw" (311 : Nat) ({ cls := "VotingHutsLaw", name := "entries", desc := "(LVotingHuts;I[J)I" } : Jvm.MethodName)) ∈ lw_all := lw_g (lw_at lw_m7 78 rfl) rfl
theorem q1651 : (Jvm.Cond.static ({ cls := "VotingHutsLaw", name := "entries", desc := "(LVotingHuts;I[J)I" } : Jvm.MethodName)) ∈ lw_all := lw_g (lw_at lw_m7 79 rfl) rfl
theorem q1652 : (Jvm.Cond.codeWith ({ cls := "VotingHutsLaw", name := "entries", desc := "(LVotingHuts;I[J)I" } : Jvm.MethodName) method_29_code (4 : Nat) (Option.some Jvm.ClassFile.FieldType.int) [((0 : Nat), (9 : Nat), (12 : Nat), (20 : Nat)), ((0 : Nat), (9 : Nat), (15 : Nat), (15 : Nat))]) ∈ lw_all := lw_g (lw_at lw_m7 80 rfl) rfl
theorem q1653 : (Jvm.Cond.methodLink "VotingHutsLaw" (100 : Nat) ({ cls := "VotingHuts", name := "entries", desc := "(I)I" } : Jvm.MethodName)) ∈ lw_all := lw_g (lw_at lw_m7 81 rfl) rfl
theorem q1708 : (Jvm.Cond.methodLink "VotingHutsLaw" (314 : Nat) ({ cls := "VotingHutsLaw", name := "arrivesIn", desc := "(LVotingHuts;I[J)I" } : Jvm.MethodName)) ∈ lw_all := lw_g (lw_at lw_m7 136 rfl) rfl
theorem q1709 : (Jvm.Cond.static ({ cls := "VotingHutsLaw", name := "arrivesIn", desc := "(LVotingHuts;I[J)I" } : Jvm.MethodName)) ∈ lw_all := lw_g (lw_at lw_m7 137 rfl) rfl
theorem q1710 : (Jvm.Cond.codeWith ({ cls := "VotingHutsLaw", name := "arrivesIn", desc := "(LVotingHuts;I[J)I" } : Jvm.MethodName) method_30_code (4 : Nat) (Option.some Jvm.ClassFile.FieldType.int) [((0 : Nat), (9 : Nat), (12 : Nat), (20 : Nat)), ((0 : Nat), (9 : Nat), (15 : Nat), (13 : Nat))]) ∈ lw_all := lw_g (lw_at lw_m7 138 rfl) rfl
theorem q1711 : (Jvm.Cond.methodLink "VotingHutsLaw" (103 : Nat) ({ cls := "VotingHuts", name := "arrivesIn", desc := "(I)I" } : Jvm.MethodName)) ∈ lw_all := lw_g (lw_at lw_m7 139 rfl) rfl
theorem q1731 : (Jvm.Cond.methodLink "VotingHutsLaw" (317 : Nat) ({ cls := "VotingHutsLaw", name := "rightThen", desc := "(LVotingHuts;I[J)I" } : Jvm.MethodName)) ∈ lw_all := lw_g (lw_at lw_m7 159 rfl) rfl
theorem q1732 : (Jvm.Cond.static ({ cls := "VotingHutsLaw", name := "rightThen", desc := "(LVotingHuts;I[J)I" } : Jvm.MethodName)) ∈ lw_all := lw_g (lw_at lw_m7 160 rfl) rfl
theorem q1733 : (Jvm.Cond.codeWith ({ cls := "VotingHutsLaw", name := "rightThen", desc := "(LVotingHuts;I[J)I" } : Jvm.MethodName) method_31_code (4 : Nat) (Option.some Jvm.ClassFile.FieldType.int) [((0 : Nat), (9 : Nat), (12 : Nat), (20 : Nat)), ((0 : Nat), (9 : Nat), (15 : Nat), (13 : Nat))]) ∈ lw_all := lw_g (lw_at lw_m7 161 rfl) rfl
theorem q1734 : (Jvm.Cond.methodLink "VotingHutsLaw" (106 : Nat) ({ cls := "VotingHuts", name := "rightThen", desc := "(I)I" } : Jvm.MethodName)) ∈ lw_all := lw_g (lw_at lw_m7 162 rfl) rfl
theorem q1738 : (Jvm.Cond.methodLink "VotingHutsLaw" (320 : Nat) ({ cls := "VotingHutsLaw", name := "believedThen", desc := "(LVotingHuts;II[J)I" } : Jvm.MethodName)) ∈ lw_all := lw_g (lw_at lw_m7 166 rfl) rfl
theorem q1739 : (Jvm.Cond.static ({ cls := "VotingHutsLaw", name := "believedThen", desc := "(LVotingHuts;II[J)I" } : Jvm.MethodName)) ∈ lw_all := lw_g (lw_at lw_m7 167 rfl) rfl
theorem q1740 : (Jvm.Cond.codeWith ({ cls := "VotingHutsLaw", name := "believedThen", desc := "(LVotingHuts;II[J)I" } : Jvm.MethodName) method_32_code (5 : Nat) (Option.some Jvm.ClassFile.FieldType.int) [((0 : Nat), (10 : Nat), (13 : Nat), (20 : Nat)), ((0 : Nat), (10 : Nat), (17 : Nat), (13 : Nat))]) ∈ lw_all := lw_g (lw_at lw_m7 168 rfl) rfl
theorem q1741 : (Jvm.Cond.methodLink "VotingHutsLaw" (109 : Nat) ({ cls := "VotingHuts", name := "believedThen", desc := "(II)I" } : Jvm.MethodName)) ∈ lw_all := lw_g (lw_at lw_m7 169 rfl) rfl
theorem q1745 : (Jvm.Cond.methodLink "VotingHutsLaw" (323 : Nat) ({ cls := "VotingHutsLaw", name := "copiesIn", desc := "(LVotingHuts;II[J)I" } : Jvm.MethodName)) ∈ lw_all := lw_g (lw_at lw_m7 173 rfl) rfl
theorem q1746 : (Jvm.Cond.static ({ cls := "VotingHutsLaw", name := "copiesIn", desc := "(LVotingHuts;II[J)I" } : Jvm.MethodName)) ∈ lw_all := lw_g (lw_at lw_m7 174 rfl) rfl
theorem q1747 : (Jvm.Cond.codeWith ({ cls := "VotingHutsLaw", name := "copiesIn", desc := "(LVotingHuts;II[J)I" } : Jvm.MethodName) method_33_code (5 : Nat) (Option.some Jvm.ClassFile.FieldType.int) [((0 : Nat), (10 : Nat), (13 : Nat), (20 : Nat)), ((0 : Nat), (10 : Nat), (17 : Nat), (15 : Nat))]) ∈ lw_all := lw_g (lw_at lw_m7 175 rfl) rfl
theorem q1748 : (Jvm.Cond.methodLink "VotingHutsLaw" (112 : Nat) ({ cls := "VotingHuts", name := "copiesIn", desc := "(II)I" } : Jvm.MethodName)) ∈ lw_all := lw_g (lw_at lw_m7 176 rfl) rfl
theorem q1767 : (Jvm.Cond.methodLink "VotingHutsLaw" (326 : Nat) ({ cls := "VotingHutsLaw", name := "rightIf", desc := "(LVotingHuts;IIII[J)I" } : Jvm.MethodName)) ∈ lw_all := lw_g (lw_at lw_m7 195 rfl) rfl
theorem q1768 : (Jvm.Cond.static ({ cls := "VotingHutsLaw", name := "rightIf", desc := "(LVotingHuts;IIII[J)I" } : Jvm.MethodName)) ∈ lw_all := lw_g (lw_at lw_m7 196 rfl) rfl
theorem q1769 : (Jvm.Cond.codeWith ({ cls := "VotingHutsLaw", name := "rightIf", desc := "(LVotingHuts;IIII[J)I" } : Jvm.MethodName) method_34_code (7 : Nat) (Option.some Jvm.ClassFile.FieldType.int) [((0 : Nat), (14 : Nat), (17 : Nat), (20 : Nat)), ((0 : Nat), (14 : Nat), (21 : Nat), (13 : Nat)), ((0 : Nat), (14 : Nat), (25 : Nat), (15 : Nat))]) ∈ lw_all := lw_g (lw_at lw_m7 197 rfl) rfl
theorem q1770 : (Jvm.Cond.methodLink "VotingHutsLaw" (115 : Nat) ({ cls := "VotingHuts", name := "rightIf", desc := "(IIII)I" } : Jvm.MethodName)) ∈ lw_all := lw_g (lw_at lw_m7 198 rfl) rfl
theorem q1796 : (Jvm.Cond.methodLink "VotingHutsLaw" (329 : Nat) ({ cls := "VotingHutsLaw", name := "needless", desc := "(LVotingHuts;II[J)I" } : Jvm.MethodName)) ∈ lw_all := lw_g (lw_at lw_m7 224 rfl) rfl
theorem q1797 : (Jvm.Cond.static ({ cls := "VotingHutsLaw", name := "needless", desc := "(LVotingHuts;II[J)I" } : Jvm.MethodName)) ∈ lw_all := lw_g (lw_at lw_m7 225 rfl) rfl
theorem q1798 : (Jvm.Cond.codeWith ({ cls := "VotingHutsLaw", name := "needless", desc := "(LVotingHuts;II[J)I" } : Jvm.MethodName) method_35_code (5 : Nat) (Option.some Jvm.ClassFile.FieldType.int) [((0 : Nat), (17 : Nat), (20 : Nat), (20 : Nat)), ((0 : Nat), (17 : Nat), (24 : Nat), (13 : Nat))]) ∈ lw_all := lw_g (lw_at lw_m7 226 rfl) rfl
theorem q1799 : (Jvm.Cond.methodLink "VotingHutsLaw" (118 : Nat) ({ cls := "VotingHuts", name := "needless", desc := "(II)Z" } : Jvm.MethodName)) ∈ lw_all := lw_g (lw_at lw_m7 227 rfl) rfl
theorem q1814 : (Jvm.Cond.methodLink "VotingHutsLaw" (332 : Nat) ({ cls := "VotingHutsLaw", name := "bestCut", desc := "(LVotingHuts;I[J)I" } : Jvm.MethodName)) ∈ lw_all := lw_g (lw_at lw_m8 2 rfl) rfl
theorem q1815 : (Jvm.Cond.static ({ cls := "VotingHutsLaw", name := "bestCut", desc := "(LVotingHuts;I[J)I" } : Jvm.MethodName)) ∈ lw_all := lw_g (lw_at lw_m8 3 rfl) rfl
theorem q1816 : (Jvm.Cond.codeWith ({ cls := "VotingHutsLaw", name := "bestCut", desc := "(LVotingHuts;I[J)I" } : Jvm.MethodName) method_36_code (4 : Nat) (Option.some Jvm.ClassFile.FieldType.int) [((0 : Nat), (9 : Nat), (12 : Nat), (20 : Nat)), ((0 : Nat), (9 : Nat), (15 : Nat), (13 : Nat))]) ∈ lw_all := lw_g (lw_at lw_m8 4 rfl) rfl
theorem q1817 : (Jvm.Cond.methodLink "VotingHutsLaw" (122 : Nat) ({ cls := "VotingHuts", name := "bestCut", desc := "(I)I" } : Jvm.MethodName)) ∈ lw_all := lw_g (lw_at lw_m8 5 rfl) rfl
theorem q1822 : (Jvm.Cond.methodLink "VotingHutsLaw" (335 : Nat) ({ cls := "VotingHutsLaw", name := "needed", desc := "(LVotingHuts;I[J)I" } : Jvm.MethodName)) ∈ lw_all := lw_g (lw_at lw_m8 10 rfl) rfl
theorem q1823 : (Jvm.Cond.static ({ cls := "VotingHutsLaw", name := "needed", desc := "(LVotingHuts;I[J)I" } : Jvm.MethodName)) ∈ lw_all := lw_g (lw_at lw_m8 11 rfl) rfl
theorem q1824 : (Jvm.Cond.codeWith ({ cls := "VotingHutsLaw", name := "needed", desc := "(LVotingHuts;I[J)I" } : Jvm.MethodName) method_37_code (4 : Nat) (Option.some Jvm.ClassFile.FieldType.int) [((0 : Nat), (9 : Nat), (12 : Nat), (20 : Nat)), ((0 : Nat), (9 : Nat), (15 : Nat), (13 : Nat))]) ∈ lw_all := lw_g (lw_at lw_m8 12 rfl) rfl
theorem q1825 : (Jvm.Cond.methodLink "VotingHutsLaw" (125 : Nat) ({ cls := "VotingHuts", name := "needed", desc := "(I)I" } : Jvm.MethodName)) ∈ lw_all := lw_g (lw_at lw_m8 13 rfl) rfl
theorem q1829 : (Jvm.Cond.methodLink "VotingHutsLaw" (338 : Nat) ({ cls := "VotingHutsLaw", name := "bestAsks", desc := "(LVotingHuts;I[J)I" } : Jvm.MethodName)) ∈ lw_all := lw_g (lw_at lw_m8 17 rfl) rfl
theorem q1830 : (Jvm.Cond.static ({ cls := "VotingHutsLaw", name := "bestAsks", desc := "(LVotingHuts;I[J)I" } : Jvm.MethodName)) ∈ lw_all := lw_g (lw_at lw_m8 18 rfl) rfl
theorem q1831 : (Jvm.Cond.codeWith ({ cls := "VotingHutsLaw", name := "bestAsks", desc := "(LVotingHuts;I[J)I" } : Jvm.MethodName) method_38_code (4 : Nat) (Option.some Jvm.ClassFile.FieldType.int) [((0 : Nat), (9 : Nat), (12 : Nat), (20 : Nat)), ((0 : Nat), (9 : Nat), (15 : Nat), (13 : Nat))]) ∈ lw_all := lw_g (lw_at lw_m8 19 rfl) rfl
theorem q1832 : (Jvm.Cond.methodLink "VotingHutsLaw" (128 : Nat) ({ cls := "VotingHuts", name := "bestAsks", desc := "(I)I" } : Jvm.MethodName)) ∈ lw_all := lw_g (lw_at lw_m8 20 rfl) rfl
theorem q1837 : (Jvm.Cond.methodLink "VotingHutsLaw" (341 : Nat) ({ cls := "VotingHutsLaw", name := "bestStart", desc := "(LVotingHuts;III[J)I" } : Jvm.MethodName)) ∈ lw_all := lw_g (lw_at lw_m8 25 rfl) rfl
theorem q1838 : (Jvm.Cond.static ({ cls := "VotingHutsLaw", name := "bestStart", desc := "(LVotingHuts;III[J)I" } : Jvm.MethodName)) ∈ lw_all := lw_g (lw_at lw_m8 26 rfl) rfl
theorem q1839 : (Jvm.Cond.codeWith ({ cls := "VotingHutsLaw", name := "bestStart", desc := "(LVotingHuts;III[J)I" } : Jvm.MethodName) method_39_code (6 : Nat) (Option.some Jvm.ClassFile.FieldType.int) [((0 : Nat), (12 : Nat), (15 : Nat), (20 : Nat)), ((0 : Nat), (12 : Nat), (19 : Nat), (15 : Nat))]) ∈ lw_all := lw_g (lw_at lw_m8 27 rfl) rfl
theorem q1840 : (Jvm.Cond.methodLink "VotingHutsLaw" (131 : Nat) ({ cls := "VotingHuts", name := "bestStart", desc := "(III)I" } : Jvm.MethodName)) ∈ lw_all := lw_g (lw_at lw_m8 28 rfl) rfl
theorem q1849 : (Jvm.Cond.methodLink "VotingHutsLaw" (344 : Nat) ({ cls := "VotingHutsLaw", name := "leastStorm", desc := "(LVotingHuts;II[J)I" } : Jvm.MethodName)) ∈ lw_all := lw_g (lw_at lw_m8 37 rfl) rfl
theorem q1850 : (Jvm.Cond.static ({ cls := "VotingHutsLaw", name := "leastStorm", desc := "(LVotingHuts;II[J)I" } : Jvm.MethodName)) ∈ lw_all := lw_g (lw_at lw_m8 38 rfl) rfl
theorem q1851 : (Jvm.Cond.codeWith ({ cls := "VotingHutsLaw", name := "leastStorm", desc := "(LVotingHuts;II[J)I" } : Jvm.MethodName) method_40_code (5 : Nat) (Option.some Jvm.ClassFile.FieldType.int) [((0 : Nat), (10 : Nat), (13 : Nat), (20 : Nat)), ((0 : Nat), (10 : Nat), (17 : Nat), (13 : Nat))]) ∈ lw_all := lw_g (lw_at lw_m8 39 rfl) rfl
theorem q1852 : (Jvm.Cond.methodLink "VotingHutsLaw" (134 : Nat) ({ cls := "VotingHuts", name := "leastStorm", desc := "(II)I" } : Jvm.MethodName)) ∈ lw_all := lw_g (lw_at lw_m8 40 rfl) rfl
theorem q1856 : (Jvm.Cond.methodLink "VotingHutsLaw" (347 : Nat) ({ cls := "VotingHutsLaw", name := "share", desc := "(LVotingHuts;[D)I" } : Jvm.MethodName)) ∈ lw_all := lw_g (lw_at lw_m8 44 rfl) rfl
theorem q1857 : (Jvm.Cond.static ({ cls := "VotingHutsLaw", name := "share", desc := "(LVotingHuts;[D)I" } : Jvm.MethodName)) ∈ lw_all := lw_g (lw_at lw_m8 45 rfl) rfl
theorem q1858 : (Jvm.Cond.codeWith ({ cls := "VotingHutsLaw", name := "share", desc := "(LVotingHuts;[D)I" } : Jvm.MethodName) method_41_code (3 : Nat) (Option.some Jvm.ClassFile.FieldType.int) [((0 : Nat), (8 : Nat), (11 : Nat), (20 : Nat))]) ∈ lw_all := lw_g (lw_at lw_m8 46 rfl) rfl
theorem q1859 : (Jvm.Cond.methodLink "VotingHutsLaw" (137 : Nat) ({ cls := "VotingHuts", name := "share", desc := "()F" } : Jvm.MethodName)) ∈ lw_all := lw_g (lw_at lw_m8 47 rfl) rfl
theorem q1863 : (Jvm.Cond.methodLink "VotingHutsLaw" (351 : Nat) ({ cls := "VotingHutsLaw", name := "meanHours", desc := "(LVotingHuts;[D)I" } : Jvm.MethodName)) ∈ lw_all := lw_g (lw_at lw_m8 51 rfl) rfl
theorem q1864 : (Jvm.Cond.static ({ cls := "VotingHutsLaw", name := "meanHours", desc := "(LVotingHuts;[D)I" } : Jvm.MethodName)) ∈ lw_all := lw_g (lw_at lw_m8 52 rfl) rfl
theorem q1865 : (Jvm.Cond.codeWith ({ cls := "VotingHutsLaw", name := "meanHours", desc := "(LVotingHuts;[D)I" } : Jvm.MethodName) method_42_code (3 : Nat) (Option.some Jvm.ClassFile.FieldType.int) [((0 : Nat), (7 : Nat), (10 : Nat), (20 : Nat))]) ∈ lw_all := lw_g (lw_at lw_m8 53 rfl) rfl
theorem q1866 : (Jvm.Cond.methodLink "VotingHutsLaw" (141 : Nat) ({ cls := "VotingHuts", name := "meanHours", desc := "()D" } : Jvm.MethodName)) ∈ lw_all := lw_g (lw_at lw_m8 54 rfl) rfl
theorem q1870 : (Jvm.Cond.methodLink "VotingHutsLaw" (354 : Nat) ({ cls := "VotingHutsLaw", name := "writeMessage", desc := "(LVotingHuts;I[J)I" } : Jvm.MethodName)) ∈ lw_all := lw_g (lw_at lw_m8 58 rfl) rfl
theorem q1871 : (Jvm.Cond.static ({ cls := "VotingHutsLaw", name := "writeMessage", desc := "(LVotingHuts;I[J)I" } : Jvm.MethodName)) ∈ lw_all := lw_g (lw_at lw_m8 59 rfl) rfl
theorem q1872 : (Jvm.Cond.codeWith ({ cls := "VotingHutsLaw", name := "writeMessage", desc := "(LVotingHuts;I[J)I" } : Jvm.MethodName) method_43_code (4 : Nat) (Option.some Jvm.ClassFile.FieldType.int) [((0 : Nat), (9 : Nat), (12 : Nat), (20 : Nat)), ((0 : Nat), (9 : Nat), (15 : Nat), (13 : Nat))]) ∈ lw_all := lw_g (lw_at lw_m8 60 rfl) rfl
theorem q1873 : (Jvm.Cond.methodLink "VotingHutsLaw" (145 : Nat) ({ cls := "VotingHuts", name := "writeMessage", desc := "(I)I" } : Jvm.MethodName)) ∈ lw_all := lw_g (lw_at lw_m8 61 rfl) rfl
theorem q1936 : (Jvm.Cond.methodLink "VotingHutsLaw" (357 : Nat) ({ cls := "VotingHutsLaw", name := "writeBelieved", desc := "(LVotingHuts;I[J)I" } : Jvm.MethodName)) ∈ lw_all := lw_g (lw_at lw_m8 124 rfl) rfl
theorem q1937 : (Jvm.Cond.static ({ cls := "VotingHutsLaw", name := "writeBelieved", desc := "(LVotingHuts;I[J)I" } : Jvm.MethodName)) ∈ lw_all := lw_g (lw_at lw_m8 125 rfl) rfl
theorem q1938 : (Jvm.Cond.codeWith ({ cls := "VotingHutsLaw", name := "writeBelieved", desc := "(LVotingHuts;I[J)I" } : Jvm.MethodName) method_44_code (4 : Nat) (Option.some Jvm.ClassFile.FieldType.int) [((0 : Nat), (9 : Nat), (12 : Nat), (20 : Nat)), ((0 : Nat), (9 : Nat), (15 : Nat), (13 : Nat))]) ∈ lw_all := lw_g (lw_at lw_m8 126 rfl) rfl
theorem q1939 : (Jvm.Cond.methodLink "VotingHutsLaw" (148 : Nat) ({ cls := "VotingHuts", name := "writeBelieved", desc := "(I)I" } : Jvm.MethodName)) ∈ lw_all := lw_g (lw_at lw_m8 127 rfl) rfl
theorem q1943 : (Jvm.Cond.methodLink "VotingHutsLaw" (360 : Nat) ({ cls := "VotingHutsLaw", name := "writeWires", desc := "(LVotingHuts;I[J)I" } : Jvm.MethodName)) ∈ lw_all := lw_g (lw_at lw_m8 131 rfl) rfl
theorem q1944 : (Jvm.Cond.static ({ cls := "VotingHutsLaw", name := "writeWires", desc := "(LVotingHuts;I[J)I" } : Jvm.MethodName)) ∈ lw_all := lw_g (lw_at lw_m8 132 rfl) rfl
theorem q1945 : (Jvm.Cond.codeWith ({ cls := "VotingHutsLaw", name := "writeWires", desc := "(LVotingHuts;I[J)I" } : Jvm.MethodName) method_45_code (4 : Nat) (Option.some Jvm.ClassFile.FieldType.int) [((0 : Nat), (9 : Nat), (12 : Nat), (20 : Nat)), ((0 : Nat), (9 : Nat), (15 : Nat), (13 : Nat))]) ∈ lw_all := lw_g (lw_at lw_m8 133 rfl) rfl
theorem q1946 : (Jvm.Cond.methodLink "VotingHutsLaw" (151 : Nat) ({ cls := "VotingHuts", name := "writeWires", desc := "(I)I" } : Jvm.MethodName)) ∈ lw_all := lw_g (lw_at lw_m8 134 rfl) rfl
theorem q1950 : (Jvm.Cond.methodLink "VotingHutsLaw" (363 : Nat) ({ cls := "VotingHutsLaw", name := "writeLog", desc := "(LVotingHuts;[J)I" } : Jvm.MethodName)) ∈ lw_all := lw_g (lw_at lw_m8 138 rfl) rfl
theorem q1951 : (Jvm.Cond.static ({ cls := "VotingHutsLaw", name := "writeLog", desc := "(LVotingHuts;[J)I" } : Jvm.MethodName)) ∈ lw_all := lw_g (lw_at lw_m8 139 rfl) rfl
theorem q1952 : (Jvm.Cond.codeWith ({ cls := "VotingHutsLaw", name := "writeLog", desc := "(LVotingHuts;[J)I" } : Jvm.MethodName) method_46_code (3 : Nat) (Option.some Jvm.ClassFile.FieldType.int) [((0 : Nat), (8 : Nat), (11 : Nat), (20 : Nat))]) ∈ lw_all := lw_g (lw_at lw_m8 140 rfl) rfl
theorem q1953 : (Jvm.Cond.methodLink "VotingHutsLaw" (154 : Nat) ({ cls := "VotingHuts", name := "writeLog", desc := "()I" } : Jvm.MethodName)) ∈ lw_all := lw_g (lw_at lw_m8 141 rfl) rfl
theorem q1969 : (Jvm.Cond.methodLink "VotingHutsLaw" (366 : Nat) ({ cls := "VotingHutsLaw", name := "textByte", desc := "(LVotingHuts;I[J)I" } : Jvm.MethodName)) ∈ lw_all := lw_g (lw_at lw_m8 157 rfl) rfl
theorem q1970 : (Jvm.Cond.static ({ cls := "VotingHutsLaw", name := "textByte", desc := "(LVotingHuts;I[J)I" } : Jvm.MethodName)) ∈ lw_all := lw_g (lw_at lw_m8 158 rfl) rfl
theorem q1971 : (Jvm.Cond.codeWith ({ cls := "VotingHutsLaw", name := "textByte", desc := "(LVotingHuts;I[J)I" } : Jvm.MethodName) method_47_code (4 : Nat) (Option.some Jvm.ClassFile.FieldType.int) [((0 : Nat), (9 : Nat), (12 : Nat), (13 : Nat))]) ∈ lw_all := lw_g (lw_at lw_m8 159 rfl) rfl
theorem q1972 : (Jvm.Cond.methodLink "VotingHutsLaw" (157 : Nat) ({ cls := "VotingHuts", name := "textByte", desc := "(I)I" } : Jvm.MethodName)) ∈ lw_all := lw_g (lw_at lw_m8 160 rfl) rfl
theorem q1986 : (Jvm.Cond.methodLink "VotingHutsLaw" (369 : Nat) ({ cls := "VotingHutsLaw", name := "send", desc := "(LVotingHuts;II[J)I" } : Jvm.MethodName)) ∈ lw_all := lw_g (lw_at lw_m8 174 rfl) rfl
theorem q1987 : (Jvm.Cond.static ({ cls := "VotingHutsLaw", name := "send", desc := "(LVotingHuts;II[J)I" } : Jvm.MethodName)) ∈ lw_all := lw_g (lw_at lw_m8 175 rfl) rfl
theorem q1988 : (Jvm.Cond.codeWith ({ cls := "VotingHutsLaw", name := "send", desc := "(LVotingHuts;II[J)I" } : Jvm.MethodName) method_48_code (5 : Nat) (Option.some Jvm.ClassFile.FieldType.int) [((0 : Nat), (10 : Nat), (13 : Nat), (20 : Nat)), ((0 : Nat), (10 : Nat), (17 : Nat), (15 : Nat))]) ∈ lw_all := lw_g (lw_at lw_m8 176 rfl) rfl
theorem q1989 : (Jvm.Cond.methodLink "VotingHutsLaw" (160 : Nat) ({ cls := "VotingHuts", name := "send", desc := "(II)I" } : Jvm.MethodName)) ∈ lw_all := lw_g (lw_at lw_m8 177 rfl) rfl
theorem q2036 : (Jvm.Cond.methodLink "VotingHutsLaw" (372 : Nat) ({ cls := "VotingHutsLaw", name := "sendSame", desc := "(LVotingHuts;II[J)I" } : Jvm.MethodName)) ∈ lw_all := lw_g (lw_at lw_m8 224 rfl) rfl
theorem q2037 : (Jvm.Cond.static ({ cls := "VotingHutsLaw", name := "sendSame", desc := "(LVotingHuts;II[J)I" } : Jvm.MethodName)) ∈ lw_all := lw_g (lw_at lw_m8 225 rfl) rfl
theorem q2038 : (Jvm.Cond.codeWith ({ cls := "VotingHutsLaw", name := "sendSame", desc := "(LVotingHuts;II[J)I" } : Jvm.MethodName) method_49_code (5 : Nat) (Option.some Jvm.ClassFile.FieldType.int) [((0 : Nat), (10 : Nat), (13 : Nat), (20 : Nat)), ((0 : Nat), (10 : Nat), (17 : Nat), (15 : Nat))]) ∈ lw_all := lw_g (lw_at lw_m8 226 rfl) rfl
theorem q2039 : (Jvm.Cond.methodLink "VotingHutsLaw" (163 : Nat) ({ cls := "VotingHuts", name := "sendSame", desc := "(II)I" } : Jvm.MethodName)) ∈ lw_all := lw_g (lw_at lw_m8 227 rfl) rfl
theorem q2043 : (Jvm.Cond.methodLink "VotingHutsLaw" (375 : Nat) ({ cls := "VotingHutsLaw", name := "resend", desc := "(LVotingHuts;I[J)I" } : Jvm.MethodName)) ∈ lw_all := lw_g (lw_at lw_m8 231 rfl) rfl
theorem q2044 : (Jvm.Cond.static ({ cls := "VotingHutsLaw", name := "resend", desc := "(LVotingHuts;I[J)I" } : Jvm.MethodName)) ∈ lw_all := lw_g (lw_at lw_m8 232 rfl) rfl
theorem q2045 : (Jvm.Cond.codeWith ({ cls := "VotingHutsLaw", name := "resend", desc := "(LVotingHuts;I[J)I" } : Jvm.MethodName) method_50_code (4 : Nat) (Option.some Jvm.ClassFile.FieldType.int) [((0 : Nat), (9 : Nat), (12 : Nat), (20 : Nat)), ((0 : Nat), (9 : Nat), (15 : Nat), (13 : Nat)), ((0 : Nat), (9 : Nat), (18 : Nat), (15 : Nat))]) ∈ lw_all := lw_g (lw_at lw_m8 233 rfl) rfl
theorem q2046 : (Jvm.Cond.methodLink "VotingHutsLaw" (166 : Nat) ({ cls := "VotingHuts", name := "resend", desc := "(I)I" } : Jvm.MethodName)) ∈ lw_all := lw_g (lw_at lw_m8 234 rfl) rfl
theorem q2050 : (Jvm.Cond.methodLink "VotingHutsLaw" (378 : Nat) ({ cls := "VotingHutsLaw", name := "pass", desc := "(LVotingHuts;I[J)I" } : Jvm.MethodName)) ∈ lw_all := lw_g (lw_at lw_m8 238 rfl) rfl
theorem q2051 : (Jvm.Cond.static ({ cls := "VotingHutsLaw", name := "pass", desc := "(LVotingHuts;I[J)I" } : Jvm.MethodName)) ∈ lw_all := lw_g (lw_at lw_m8 239 rfl) rfl
theorem q2052 : (Jvm.Cond.codeWith ({ cls := "VotingHutsLaw", name := "pass", desc := "(LVotingHuts;I[J)I" } : Jvm.MethodName) method_51_code (4 : Nat) (Option.some Jvm.ClassFile.FieldType.int) [((0 : Nat), (9 : Nat), (12 : Nat), (20 : Nat)), ((0 : Nat), (9 : Nat), (15 : Nat), (15 : Nat))]) ∈ lw_all := lw_g (lw_at lw_m9 0 rfl) rfl
theorem q2053 : (Jvm.Cond.methodLink "VotingHutsLaw" (169 : Nat) ({ cls := "VotingHuts", name := "pass", desc := "(I)I" } : Jvm.MethodName)) ∈ lw_all := lw_g (lw_at lw_m9 1 rfl) rfl
theorem q2057 : (Jvm.Cond.methodLink "VotingHutsLaw" (381 : Nat) ({ cls := "VotingHutsLaw", name := "setStorm", desc := "(LVotingHuts;III[J)I" } : Jvm.MethodName)) ∈ lw_all := lw_g (lw_at lw_m9 5 rfl) rfl
theorem q2058 : (Jvm.Cond.static ({ cls := "VotingHutsLaw", name := "setStorm", desc := "(LVotingHuts;III[J)I" } : Jvm.MethodName)) ∈ lw_all := lw_g (lw_at lw_m9 6 rfl) rfl
theorem q2059 : (Jvm.Cond.codeWith ({ cls := "VotingHutsLaw", name := "setStorm", desc := "(LVotingHuts;III[J)I" } : Jvm.MethodName) method_52_code (6 : Nat) (Option.some Jvm.ClassFile.FieldType.int) [((0 : Nat), (12 : Nat), (15 : Nat), (20 : Nat)), ((0 : Nat), (12 : Nat), (19 : Nat), (13 : Nat)), ((0 : Nat), (12 : Nat), (23 : Nat), (15 : Nat))]) ∈ lw_all := lw_g (lw_at lw_m9 7 rfl) rfl
theorem q2060 : (Jvm.Cond.methodLink "VotingHutsLaw" (172 : Nat) ({ cls := "VotingHuts", name := "setStorm", desc := "(III)I" } : Jvm.MethodName)) ∈ lw_all := lw_g (lw_at lw_m9 8 rfl) rfl
theorem q2068 : (Jvm.Cond.methodLink "VotingHutsLaw" (384 : Nat) ({ cls := "VotingHutsLaw", name := "calm", desc := "(LVotingHuts;[J)I" } : Jvm.MethodName)) ∈ lw_all := lw_g (lw_at lw_m9 16 rfl) rfl
theorem q2069 : (Jvm.Cond.static ({ cls := "VotingHutsLaw", name := "calm", desc := "(LVotingHuts;[J)I" } : Jvm.MethodName)) ∈ lw_all := lw_g (lw_at lw_m9 17 rfl) rfl
theorem q2070 : (Jvm.Cond.codeWith ({ cls := "VotingHutsLaw", name := "calm", desc := "(LVotingHuts;[J)I" } : Jvm.MethodName) method_53_code (3 : Nat) (Option.some Jvm.ClassFile.FieldType.int) [((0 : Nat), (8 : Nat), (11 : Nat), (20 : Nat))]) ∈ lw_all := lw_g (lw_at lw_m9 18 rfl) rfl
theorem q2071 : (Jvm.Cond.methodLink "VotingHutsLaw" (175 : Nat) ({ cls := "VotingHuts", name := "calm", desc := "()I" } : Jvm.MethodName)) ∈ lw_all := lw_g (lw_at lw_m9 19 rfl) rfl
theorem q2076 : (Jvm.Cond.methodLink "VotingHutsLaw" (387 : Nat) ({ cls := "VotingHutsLaw", name := "turnWire", desc := "(LVotingHuts;I[J)I" } : Jvm.MethodName)) ∈ lw_all := lw_g (lw_at lw_m9 24 rfl) rfl
theorem q2077 : (Jvm.Cond.static ({ cls := "VotingHutsLaw", name := "turnWire", desc := "(LVotingHuts;I[J)I" } : Jvm.MethodName)) ∈ lw_all := lw_g (lw_at lw_m9 25 rfl) rfl
theorem q2078 : (Jvm.Cond.codeWith ({ cls := "VotingHutsLaw", name := "turnWire", desc := "(LVotingHuts;I[J)I" } : Jvm.MethodName) method_54_code (4 : Nat) (Option.some Jvm.ClassFile.FieldType.int) [((0 : Nat), (9 : Nat), (12 : Nat), (20 : Nat)), ((0 : Nat), (9 : Nat), (15 : Nat), (13 : Nat))]) ∈ lw_all := lw_g (lw_at lw_m9 26 rfl) rfl
theorem q2079 : (Jvm.Cond.methodLink "VotingHutsLaw" (178 : Nat) ({ cls := "VotingHuts", name := "turnWire", desc := "(I)I" } : Jvm.MethodName)) ∈ lw_all := lw_g (lw_at lw_m9 27 rfl) rfl
theorem q2083 : (Jvm.Cond.methodLink "VotingHutsLaw" (390 : Nat) ({ cls := "VotingHutsLaw", name := "mendAll", desc := "(LVotingHuts;[J)I" } : Jvm.MethodName)) ∈ lw_all := lw_g (lw_at lw_m9 31 rfl) rfl
theorem q2084 : (Jvm.Cond.static ({ cls := "VotingHutsLaw", name := "mendAll", desc := "(LVotingHuts;[J)I" } : Jvm.MethodName)) ∈ lw_all := lw_g (lw_at lw_m9 32 rfl) rfl
theorem q2085 : (Jvm.Cond.codeWith ({ cls := "VotingHutsLaw", name := "mendAll", desc := "(LVotingHuts;[J)I" } : Jvm.MethodName) method_55_code (3 : Nat) (Option.some Jvm.ClassFile.FieldType.int) [((0 : Nat), (8 : Nat), (11 : Nat), (20 : Nat))]) ∈ lw_all := lw_g (lw_at lw_m9 33 rfl) rfl
theorem q2086 : (Jvm.Cond.methodLink "VotingHutsLaw" (181 : Nat) ({ cls := "VotingHuts", name := "mendAll", desc := "()I" } : Jvm.MethodName)) ∈ lw_all := lw_g (lw_at lw_m9 34 rfl) rfl
theorem q2094 : (Jvm.Cond.methodLink "VotingHutsLaw" (393 : Nat) ({ cls := "VotingHutsLaw", name := "turnLevel", desc := "(LVotingHuts;I[J)I" } : Jvm.MethodName)) ∈ lw_all := lw_g (lw_at lw_m9 42 rfl) rfl
theorem q2095 : (Jvm.Cond.static ({ cls := "VotingHutsLaw", name := "turnLevel", desc := "(LVotingHuts;I[J)I" } : Jvm.MethodName)) ∈ lw_all := lw_g (lw_at lw_m9 43 rfl) rfl
theorem q2096 : (Jvm.Cond.codeWith ({ cls := "VotingHutsLaw", name := "turnLevel", desc := "(LVotingHuts;I[J)I" } : Jvm.MethodName) method_56_code (4 : Nat) (Option.some Jvm.ClassFile.FieldType.int) [((0 : Nat), (9 : Nat), (12 : Nat), (20 : Nat)), ((0 : Nat), (9 : Nat), (15 : Nat), (13 : Nat))]) ∈ lw_all := lw_g (lw_at lw_m9 44 rfl) rfl
theorem q2097 : (Jvm.Cond.methodLink "VotingHutsLaw" (184 : Nat) ({ cls := "VotingHuts", name := "turnLevel", desc := "(I)I" } : Jvm.MethodName)) ∈ lw_all := lw_g (lw_at lw_m9 45 rfl) rfl
theorem q2105 : (Jvm.Cond.methodLink "VotingHutsLaw" (396 : Nat) ({ cls := "VotingHutsLaw", name := "setAsks", desc := "(LVotingHuts;I[J)I" } : Jvm.MethodName)) ∈ lw_all := lw_g (lw_at lw_m9 53 rfl) rfl
theorem q2106 : (Jvm.Cond.static ({ cls := "VotingHutsLaw", name := "setAsks", desc := "(LVotingHuts;I[J)I" } : Jvm.MethodName)) ∈ lw_all := lw_g (lw_at lw_m9 54 rfl) rfl
theorem q2107 : (Jvm.Cond.codeWith ({ cls := "VotingHutsLaw", name := "setAsks", desc := "(LVotingHuts;I[J)I" } : Jvm.MethodName) method_57_code (4 : Nat) (Option.some Jvm.ClassFile.FieldType.int) [((0 : Nat), (9 : Nat), (12 : Nat), (20 : Nat)), ((0 : Nat), (9 : Nat), (15 : Nat), (15 : Nat))]) ∈ lw_all := lw_g (lw_at lw_m9 55 rfl) rfl
theorem q2108 : (Jvm.Cond.methodLink "VotingHutsLaw" (187 : Nat) ({ cls := "VotingHuts", name := "setAsks", desc := "(I)I" } : Jvm.MethodName)) ∈ lw_all := lw_g (lw_at lw_m9 56 rfl) rfl
theorem q2113 : (Jvm.Cond.methodLink "VotingHutsLaw" (399 : Nat) ({ cls := "VotingHutsLaw", name := "drop", desc := "(LVotingHuts;I[J)I" } : Jvm.MethodName)) ∈ lw_all := lw_g (lw_at lw_m9 61 rfl) rfl
theorem q2114 : (Jvm.Cond.static ({ cls := "VotingHutsLaw", name := "drop", desc := "(LVotingHuts;I[J)I" } : Jvm.MethodName)) ∈ lw_all := lw_g (lw_at lw_m9 62 rfl) rfl
theorem q2115 : (Jvm.Cond.codeWith ({ cls := "VotingHutsLaw", name := "drop", desc := "(LVotingHuts;I[J)I" } : Jvm.MethodName) method_58_code (4 : Nat) (Option.some Jvm.ClassFile.FieldType.int) [((0 : Nat), (9 : Nat), (12 : Nat), (20 : Nat)), ((0 : Nat), (9 : Nat), (15 : Nat), (13 : Nat)), ((0 : Nat), (9 : Nat), (18 : Nat), (15 : Nat))]) ∈ lw_all := lw_g (lw_at lw_m9 63 rfl) rfl
theorem q2116 : (Jvm.Cond.methodLink "VotingHutsLaw" (190 : Nat) ({ cls := "VotingHuts", name := "drop", desc := "(I)I" } : Jvm.MethodName)) ∈ lw_all := lw_g (lw_at lw_m9 64 rfl) rfl
theorem q2121 : (Jvm.Cond.methodLink "VotingHutsLaw" (402 : Nat) ({ cls := "VotingHutsLaw", name := "undo", desc := "(LVotingHuts;[J)I" } : Jvm.MethodName)) ∈ lw_all := lw_g (lw_at lw_m9 69 rfl) rfl
theorem q2122 : (Jvm.Cond.static ({ cls := "VotingHutsLaw", name := "undo", desc := "(LVotingHuts;[J)I" } : Jvm.MethodName)) ∈ lw_all := lw_g (lw_at lw_m9 70 rfl) rfl
theorem q2123 : (Jvm.Cond.codeWith ({ cls := "VotingHutsLaw", name := "undo", desc := "(LVotingHuts;[J)I" } : Jvm.MethodName) method_59_code (3 : Nat) (Option.some Jvm.ClassFile.FieldType.int) [((0 : Nat), (8 : Nat), (11 : Nat), (20 : Nat))]) ∈ lw_all := lw_g (lw_at lw_m9 71 rfl) rfl
theorem q2124 : (Jvm.Cond.methodLink "VotingHutsLaw" (193 : Nat) ({ cls := "VotingHuts", name := "undo", desc := "()I" } : Jvm.MethodName)) ∈ lw_all := lw_g (lw_at lw_m9 72 rfl) rfl
theorem q2143 : (Jvm.Cond.methodLink "VotingHutsLaw" (409 : Nat) ({ cls := "VotingHutsLaw", name := "save", desc := "(LVotingHuts;I[J)I" } : Jvm.MethodName)) ∈ lw_all := lw_g (lw_at lw_m9 91 rfl) rfl
theorem q2144 : (Jvm.Cond.static ({ cls := "VotingHutsLaw", name := "save", desc := "(LVotingHuts;I[J)I" } : Jvm.MethodName)) ∈ lw_all := lw_g (lw_at lw_m9 92 rfl) rfl
theorem q2145 : (Jvm.Cond.codeWith ({ cls := "VotingHutsLaw", name := "save", desc := "(LVotingHuts;I[J)I" } : Jvm.MethodName) method_60_code (4 : Nat) (Option.some Jvm.ClassFile.FieldType.int) [((0 : Nat), (9 : Nat), (12 : Nat), (20 : Nat)), ((0 : Nat), (9 : Nat), (15 : Nat), (13 : Nat))]) ∈ lw_all := lw_g (lw_at lw_m9 93 rfl) rfl
theorem q2146 : (Jvm.Cond.methodLink "VotingHutsLaw" (196 : Nat) ({ cls := "VotingHuts", name := "save", desc := "(I)I" } : Jvm.MethodName)) ∈ lw_all := lw_g (lw_at lw_m9 94 rfl) rfl
theorem q2150 : (Jvm.Cond.methodLink "VotingHutsLaw" (412 : Nat) ({ cls := "VotingHutsLaw", name := "restore", desc := "(LVotingHuts;I[J)I" } : Jvm.MethodName)) ∈ lw_all := lw_g (lw_at lw_m9 98 rfl) rfl
theorem q2151 : (Jvm.Cond.static ({ cls := "VotingHutsLaw", name := "restore", desc := "(LVotingHuts;I[J)I" } : Jvm.MethodName)) ∈ lw_all := lw_g (lw_at lw_m9 99 rfl) rfl
theorem q2152 : (Jvm.Cond.codeWith ({ cls := "VotingHutsLaw", name := "restore", desc := "(LVotingHuts;I[J)I" } : Jvm.MethodName) method_61_code (4 : Nat) (Option.some Jvm.ClassFile.FieldType.int) [((0 : Nat), (9 : Nat), (12 : Nat), (13 : Nat)), ((0 : Nat), (9 : Nat), (15 : Nat), (20 : Nat))]) ∈ lw_all := lw_g (lw_at lw_m9 100 rfl) rfl
theorem q2153 : (Jvm.Cond.methodLink "VotingHutsLaw" (199 : Nat) ({ cls := "VotingHuts", name := "restore", desc := "(I)I" } : Jvm.MethodName)) ∈ lw_all := lw_g (lw_at lw_m9 101 rfl) rfl
theorem q2157 : (Jvm.Cond.classLink "VotingHutsLaw" (203 : Nat) "VotingHutsModel") ∈ lw_all := lw_g (lw_at lw_m9 105 rfl) rfl
theorem q2159 : (Jvm.Cond.methodLink "VotingHutsLaw" (205 : Nat) ({ cls := "VotingHutsModel", name := "<init>", desc := "()V" } : Jvm.MethodName)) ∈ lw_all := lw_g (lw_at lw_m9 107 rfl) rfl
theorem q2230 : (Jvm.Cond.methodLink "VotingHutsLaw" (216 : Nat) ({ cls := "VotingHutsModel", name := "thrown", desc := "()I" } : Jvm.MethodName)) ∈ lw_all := lw_g (lw_at lw_m9 178 rfl) rfl
theorem q2234 : (Jvm.Cond.methodLink "VotingHutsLaw" (209 : Nat) ({ cls := "VotingHutsModel", name := "append", desc := "(IIIII)I" } : Jvm.MethodName)) ∈ lw_all := lw_g (lw_at lw_m9 182 rfl) rfl
theorem q2242 : (Jvm.Cond.methodLink "VotingHutsLaw" (222 : Nat) ({ cls := "VotingHutsModel", name := "parseError", desc := "()I" } : Jvm.MethodName)) ∈ lw_all := lw_g (lw_at lw_m9 190 rfl) rfl
theorem q2246 : (Jvm.Cond.methodLink "VotingHutsLaw" (226 : Nat) ({ cls := "VotingHutsModel", name := "errorPosition", desc := "()I" } : Jvm.MethodName)) ∈ lw_all := lw_g (lw_at lw_m9 194 rfl) rfl
theorem q2250 : (Jvm.Cond.methodLink "VotingHutsLaw" (230 : Nat) ({ cls := "VotingHutsModel", name := "buffered", desc := "()I" } : Jvm.MethodName)) ∈ lw_all := lw_g (lw_at lw_m9 198 rfl) rfl
theorem q2254 : (Jvm.Cond.methodLink "VotingHutsLaw" (215 : Nat) ({ cls := "VotingHutsModel", name := "load", desc := "(I)I" } : Jvm.MethodName)) ∈ lw_all := lw_g (lw_at lw_m9 202 rfl) rfl
theorem q2497 : (Jvm.Cond.methodLink "VotingHutsLaw" (233 : Nat) ({ cls := "VotingHutsModel", name := "count", desc := "(I)I" } : Jvm.MethodName)) ∈ lw_all := lw_g (lw_at lw_m10 205 rfl) rfl
theorem q2509 : (Jvm.Cond.methodLink "VotingHutsLaw" (237 : Nat) ({ cls := "VotingHutsModel", name := "wire", desc := "(IIII)I" } : Jvm.MethodName)) ∈ lw_all := lw_g (lw_at lw_m10 217 rfl) rfl
theorem q2521 : (Jvm.Cond.methodLink "VotingHutsLaw" (241 : Nat) ({ cls := "VotingHutsModel", name := "garbles", desc := "(IIIII)Z" } : Jvm.MethodName)) ∈ lw_all := lw_g (lw_at lw_m10 229 rfl) rfl
theorem q2525 : (Jvm.Cond.methodLink "VotingHutsLaw" (244 : Nat) ({ cls := "VotingHutsModel", name := "comes", desc := "(IIIII)I" } : Jvm.MethodName)) ∈ lw_all := lw_g (lw_at lw_m10 233 rfl) rfl
theorem q2532 : (Jvm.Cond.methodLink "VotingHutsLaw" (248 : Nat) ({ cls := "VotingHutsModel", name := "worstWire", desc := "()I" } : Jvm.MethodName)) ∈ lw_all := lw_g (lw_at lw_m11 0 rfl) rfl
theorem q2540 : (Jvm.Cond.methodLink "VotingHutsLaw" (258 : Nat) ({ cls := "VotingHutsModel", name := "stormyHours", desc := "(IIII)I" } : Jvm.MethodName)) ∈ lw_all := lw_g (lw_at lw_m11 8 rfl) rfl
theorem q2548 : (Jvm.Cond.methodLink "VotingHutsLaw" (252 : Nat) ({ cls := "VotingHutsModel", name := "stormyWires", desc := "(II)I" } : Jvm.MethodName)) ∈ lw_all := lw_g (lw_at lw_m11 16 rfl) rfl
theorem q2552 : (Jvm.Cond.methodLink "VotingHutsLaw" (255 : Nat) ({ cls := "VotingHutsModel", name := "calmest", desc := "(I)I" } : Jvm.MethodName)) ∈ lw_all := lw_g (lw_at lw_m11 20 rfl) rfl
theorem q2560 : (Jvm.Cond.methodLink "VotingHutsLaw" (261 : Nat) ({ cls := "VotingHutsModel", name := "message", desc := "(II)I" } : Jvm.MethodName)) ∈ lw_all := lw_g (lw_at lw_m11 28 rfl) rfl
theorem q2580 : (Jvm.Cond.methodLink "VotingHutsLaw" (264 : Nat) ({ cls := "VotingHutsModel", name := "digit", desc := "(II)I" } : Jvm.MethodName)) ∈ lw_all := lw_g (lw_at lw_m11 48 rfl) rfl
theorem q2588 : (Jvm.Cond.methodLink "VotingHutsLaw" (268 : Nat) ({ cls := "VotingHutsModel", name := "has", desc := "(III)I" } : Jvm.MethodName)) ∈ lw_all := lw_g (lw_at lw_m11 56 rfl) rfl
theorem q2596 : (Jvm.Cond.methodLink "VotingHutsLaw" (271 : Nat) ({ cls := "VotingHutsModel", name := "copy", desc := "(IIII)I" } : Jvm.MethodName)) ∈ lw_all := lw_g (lw_at lw_m11 64 rfl) rfl
theorem q2600 : (Jvm.Cond.methodLink "VotingHutsLaw" (274 : Nat) ({ cls := "VotingHutsModel", name := "vote", desc := "(III)I" } : Jvm.MethodName)) ∈ lw_all := lw_g (lw_at lw_m11 68 rfl) rfl
theorem q2616 : (Jvm.Cond.methodLink "VotingHutsLaw" (277 : Nat) ({ cls := "VotingHutsModel", name := "unsure", desc := "(II)I" } : Jvm.MethodName)) ∈ lw_all := lw_g (lw_at lw_m11 84 rfl) rfl
theorem q2620 : (Jvm.Cond.methodLink "VotingHutsLaw" (280 : Nat) ({ cls := "VotingHutsModel", name := "wrong", desc := "(II)I" } : Jvm.MethodName)) ∈ lw_all := lw_g (lw_at lw_m11 88 rfl) rfl
theorem q2624 : (Jvm.Cond.methodLink "VotingHutsLaw" (283 : Nat) ({ cls := "VotingHutsModel", name := "believed", desc := "(II)I" } : Jvm.MethodName)) ∈ lw_all := lw_g (lw_at lw_m11 92 rfl) rfl
theorem q2632 : (Jvm.Cond.methodLink "VotingHutsLaw" (286 : Nat) ({ cls := "VotingHutsModel", name := "right", desc := "(I)I" } : Jvm.MethodName)) ∈ lw_all := lw_g (lw_at lw_m11 100 rfl) rfl
theorem q2644 : (Jvm.Cond.methodLink "VotingHutsLaw" (289 : Nat) ({ cls := "VotingHutsModel", name := "liar", desc := "(I)I" } : Jvm.MethodName)) ∈ lw_all := lw_g (lw_at lw_m11 112 rfl) rfl
theorem q2652 : (Jvm.Cond.methodLink "VotingHutsLaw" (292 : Nat) ({ cls := "VotingHutsModel", name := "firstWrong", desc := "(I)I" } : Jvm.MethodName)) ∈ lw_all := lw_g (lw_at lw_m11 120 rfl) rfl
theorem q2656 : (Jvm.Cond.methodLink "VotingHutsLaw" (295 : Nat) ({ cls := "VotingHutsModel", name := "doubtful", desc := "(I)I" } : Jvm.MethodName)) ∈ lw_all := lw_g (lw_at lw_m11 124 rfl) rfl
theorem q2664 : (Jvm.Cond.methodLink "VotingHutsLaw" (298 : Nat) ({ cls := "VotingHutsModel", name := "agreeing", desc := "(I)I" } : Jvm.MethodName)) ∈ lw_all := lw_g (lw_at lw_m11 132 rfl) rfl
theorem q2672 : (Jvm.Cond.methodLink "VotingHutsLaw" (301 : Nat) ({ cls := "VotingHutsModel", name := "oldest", desc := "()I" } : Jvm.MethodName)) ∈ lw_all := lw_g (lw_at lw_m11 140 rfl) rfl
theorem q2676 : (Jvm.Cond.methodLink "VotingHutsLaw" (304 : Nat) ({ cls := "VotingHutsModel", name := "next", desc := "(I)I" } : Jvm.MethodName)) ∈ lw_all := lw_g (lw_at lw_m11 144 rfl) rfl
theorem q2684 : (Jvm.Cond.methodLink "VotingHutsLaw" (307 : Nat) ({ cls := "VotingHutsModel", name := "gap", desc := "()I" } : Jvm.MethodName)) ∈ lw_all := lw_g (lw_at lw_m11 152 rfl) rfl
theorem q2697 : (Jvm.Cond.methodLink "VotingHutsLaw" (310 : Nat) ({ cls := "VotingHutsModel", name := "logged", desc := "(II)I" } : Jvm.MethodName)) ∈ lw_all := lw_g (lw_at lw_m11 165 rfl) rfl
theorem q2701 : (Jvm.Cond.methodLink "VotingHutsLaw" (313 : Nat) ({ cls := "VotingHutsModel", name := "entries", desc := "(I)I" } : Jvm.MethodName)) ∈ lw_all := lw_g (lw_at lw_m11 169 rfl) rfl
theorem q2705 : (Jvm.Cond.methodLink "VotingHutsLaw" (316 : Nat) ({ cls := "VotingHutsModel", name := "arrivesIn", desc := "(I)I" } : Jvm.MethodName)) ∈ lw_all := lw_g (lw_at lw_m11 173 rfl) rfl
theorem q2713 : (Jvm.Cond.methodLink "VotingHutsLaw" (319 : Nat) ({ cls := "VotingHutsModel", name := "rightThen", desc := "(I)I" } : Jvm.MethodName)) ∈ lw_all := lw_g (lw_at lw_m11 181 rfl) rfl
theorem q2721 : (Jvm.Cond.methodLink "VotingHutsLaw" (322 : Nat) ({ cls := "VotingHutsModel", name := "believedThen", desc := "(II)I" } : Jvm.MethodName)) ∈ lw_all := lw_g (lw_at lw_m11 189 rfl) rfl
theorem q2725 : (Jvm.Cond.methodLink "VotingHutsLaw" (328 : Nat) ({ cls := "VotingHutsModel", name := "rightIf", desc := "(IIII)I" } : Jvm.MethodName)) ∈ lw_all := lw_g (lw_at lw_m11 193 rfl) rfl
theorem q2741 : (Jvm.Cond.methodLink "VotingHutsLaw" (331 : Nat) ({ cls := "VotingHutsModel", name := "needless", desc := "(II)Z" } : Jvm.MethodName)) ∈ lw_all := lw_g (lw_at lw_m11 209 rfl) rfl
theorem q2753 : (Jvm.Cond.methodLink "VotingHutsLaw" (337 : Nat) ({ cls := "VotingHutsModel", name := "needed", desc := "(I)I" } : Jvm.MethodName)) ∈ lw_all := lw_g (lw_at lw_m11 221 rfl) rfl
theorem q2757 : (Jvm.Cond.methodLink "VotingHutsLaw" (340 : Nat) ({ cls := "VotingHutsModel", name := "bestAsks", desc := "(I)I" } : Jvm.MethodName)) ∈ lw_all := lw_g (lw_at lw_m11 225 rfl) rfl
theorem q2761 : (Jvm.Cond.methodLink "VotingHutsLaw" (325 : Nat) ({ cls := "VotingHutsModel", name := "copiesIn", desc := "(II)I" } : Jvm.MethodName)) ∈ lw_all := lw_g (lw_at lw_m11 229 rfl) rfl
theorem q2765 : (Jvm.Cond.methodLink "VotingHutsLaw" (334 : Nat) ({ cls := "VotingHutsModel", name := "bestCut", desc := "(I)I" } : Jvm.MethodName)) ∈ lw_all := lw_g (lw_at lw_m11 233 rfl) rfl
theorem q2773 : (Jvm.Cond.methodLink "VotingHutsLaw" (343 : Nat) ({ cls := "VotingHutsModel", name := "bestStart", desc := "(III)I" } : Jvm.MethodName)) ∈ lw_all := lw_g (lw_at lw_m12 1 rfl) rfl
theorem q2781 : (Jvm.Cond.methodLink "VotingHutsLaw" (346 : Nat) ({ cls := "VotingHutsModel", name := "leastStorm", desc := "(II)I" } : Jvm.MethodName)) ∈ lw_all := lw_g (lw_at lw_m12 9 rfl) rfl
theorem q2785 : (Jvm.Cond.methodLink "VotingHutsLaw" (350 : Nat) ({ cls := "VotingHutsModel", name := "share", desc := "()F" } : Jvm.MethodName)) ∈ lw_all := lw_g (lw_at lw_m12 13 rfl) rfl
theorem q2789 : (Jvm.Cond.methodLink "VotingHutsLaw" (353 : Nat) ({ cls := "VotingHutsModel", name := "meanHours", desc := "()D" } : Jvm.MethodName)) ∈ lw_all := lw_g (lw_at lw_m12 17 rfl) rfl
theorem q2797 : (Jvm.Cond.methodLink "VotingHutsLaw" (356 : Nat) ({ cls := "VotingHutsModel", name := "writeMessage", desc := "(I)I" } : Jvm.MethodName)) ∈ lw_all := lw_g (lw_at lw_m12 25 rfl) rfl
theorem q2809 : (Jvm.Cond.methodLink "VotingHutsLaw" (359 : Nat) ({ cls := "VotingHutsModel", name := "writeBelieved", desc := "(I)I" } : Jvm.MethodName)) ∈ lw_all := lw_g (lw_at lw_m12 37 rfl) rfl
theorem q2813 : (Jvm.Cond.methodLink "VotingHutsLaw" (362 : Nat) ({ cls := "VotingHutsModel", name := "writeWires", desc := "(I)I" } : Jvm.MethodName)) ∈ lw_all := lw_g (lw_at lw_m12 41 rfl) rfl
theorem q2817 : (Jvm.Cond.methodLink "VotingHutsLaw" (365 : Nat) ({ cls := "VotingHutsModel", name := "writeLog", desc := "()I" } : Jvm.MethodName)) ∈ lw_all := lw_g (lw_at lw_m12 45 rfl) rfl
theorem q2828 : (Jvm.Cond.methodLink "VotingHutsLaw" (368 : Nat) ({ cls := "VotingHutsModel", name := "textByte", desc := "(I)I" } : Jvm.MethodName)) ∈ lw_all := lw_g (lw_at lw_m12 56 rfl) rfl
theorem q2832 : (Jvm.Cond.methodLink "VotingHutsLaw" (371 : Nat) ({ cls := "VotingHutsModel", name := "send", desc := "(II)I" } : Jvm.MethodName)) ∈ lw_all := lw_g (lw_at lw_m12 60 rfl) rfl
theorem q2843 : (Jvm.Cond.methodLink "VotingHutsLaw" (374 : Nat) ({ cls := "VotingHutsModel", name := "sendSame", desc := "(II)I" } : Jvm.MethodName)) ∈ lw_all := lw_g (lw_at lw_m12 71 rfl) rfl
theorem q2847 : (Jvm.Cond.methodLink "VotingHutsLaw" (377 : Nat) ({ cls := "VotingHutsModel", name := "resend", desc := "(I)I" } : Jvm.MethodName)) ∈ lw_all := lw_g (lw_at lw_m12 75 rfl) rfl
theorem q2851 : (Jvm.Cond.methodLink "VotingHutsLaw" (380 : Nat) ({ cls := "VotingHutsModel", name := "pass", desc := "(I)I" } : Jvm.MethodName)) ∈ lw_all := lw_g (lw_at lw_m12 79 rfl) rfl
theorem q2855 : (Jvm.Cond.methodLink "VotingHutsLaw" (383 : Nat) ({ cls := "VotingHutsModel", name := "setStorm", desc := "(III)I" } : Jvm.MethodName)) ∈ lw_all := lw_g (lw_at lw_m12 83 rfl) rfl
theorem q2859 : (Jvm.Cond.methodLink "VotingHutsLaw" (386 : Nat) ({ cls := "VotingHutsModel", name := "calm", desc := "()I" } : Jvm.MethodName)) ∈ lw_all := lw_g (lw_at lw_m12 87 rfl) rfl
theorem q2863 : (Jvm.Cond.methodLink "VotingHutsLaw" (392 : Nat) ({ cls := "VotingHutsModel", name := "mendAll", desc := "()I" } : Jvm.MethodName)) ∈ lw_all := lw_g (lw_at lw_m12 91 rfl) rfl
theorem q2867 : (Jvm.Cond.methodLink "VotingHutsLaw" (395 : Nat) ({ cls := "VotingHutsModel", name := "turnLevel", desc := "(I)I" } : Jvm.MethodName)) ∈ lw_all := lw_g (lw_at lw_m12 95 rfl) rfl
theorem q2871 : (Jvm.Cond.methodLink "VotingHutsLaw" (389 : Nat) ({ cls := "VotingHutsModel", name := "turnWire", desc := "(I)I" } : Jvm.MethodName)) ∈ lw_all := lw_g (lw_at lw_m12 99 rfl) rfl
theorem q2875 : (Jvm.Cond.methodLink "VotingHutsLaw" (398 : Nat) ({ cls := "VotingHutsModel", name := "setAsks", desc := "(I)I" } : Jvm.MethodName)) ∈ lw_all := lw_g (lw_at lw_m12 103 rfl) rfl
theorem q2879 : (Jvm.Cond.methodLink "VotingHutsLaw" (401 : Nat) ({ cls := "VotingHutsModel", name := "drop", desc := "(I)I" } : Jvm.MethodName)) ∈ lw_all := lw_g (lw_at lw_m12 107 rfl) rfl
theorem q2883 : (Jvm.Cond.methodLink "VotingHutsLaw" (404 : Nat) ({ cls := "VotingHutsModel", name := "undo", desc := "()I" } : Jvm.MethodName)) ∈ lw_all := lw_g (lw_at lw_m12 111 rfl) rfl
theorem q2887 : (Jvm.Cond.methodLink "VotingHutsLaw" (408 : Nat) ({ cls := "VotingHutsModel", name := "undoable", desc := "()I" } : Jvm.MethodName)) ∈ lw_all := lw_g (lw_at lw_m12 115 rfl) rfl
theorem q2891 : (Jvm.Cond.methodLink "VotingHutsLaw" (411 : Nat) ({ cls := "VotingHutsModel", name := "save", desc := "(I)I" } : Jvm.MethodName)) ∈ lw_all := lw_g (lw_at lw_m12 119 rfl) rfl
theorem q2898 : (Jvm.Cond.methodLink "VotingHutsLaw" (414 : Nat) ({ cls := "VotingHutsModel", name := "restore", desc := "(I)I" } : Jvm.MethodName)) ∈ lw_all := lw_g (lw_at lw_m12 126 rfl) rfl
/-! the law's own entry -/
set_option maxRecDepth 100000
abbrev cL_law : ByteArray := code
def dkwL_law_169 : List UInt8 := [167, 0, 3, 132, 5, 6, 167, 239, 191, 4, 172]
abbrev dktL_law_169 : List UInt8 := dkwL_law_169 ++ []
def dkwL_law_168 : List UInt8 := [21, 6, 159, 0, 5, 3, 172, 21, 6, 154, 0, 15, 45, 3, 47, 21, 7, 133, 148, 153, 0, 5, 3, 172]
abbrev dktL_law_168 : List UInt8 := dkwL_law_168 ++ dktL_law_169
def dkwL_law_167 : List UInt8 := [46, 45, 184, 1, 156, 54, 6, 44, 42, 21, 5, 4, 96, 46, 182, 1, 158, 54, 7, 44, 182, 0, 216]
abbrev dktL_law_167 : List UInt8 := dkwL_law_167 ++ dktL_law_168
def dkwL_law_166 : List UInt8 := [154, 0, 15, 45, 3, 47, 21, 7, 133, 148, 153, 0, 5, 3, 172, 167, 0, 59, 43, 42, 21, 5, 4, 96]
abbrev dktL_law_166 : List UInt8 := dkwL_law_166 ++ dktL_law_167
def dkwL_law_165 : List UInt8 := [21, 5, 4, 96, 46, 182, 1, 155, 54, 7, 44, 182, 0, 216, 21, 6, 159, 0, 5, 3, 172, 21, 6]
abbrev dktL_law_165 : List UInt8 := dkwL_law_165 ++ dktL_law_166
def dkwL_law_164 : List UInt8 := [182, 1, 152, 159, 0, 117, 3, 172, 43, 42, 21, 5, 4, 96, 46, 45, 184, 1, 153, 54, 6, 44, 42]
abbrev dktL_law_164 : List UInt8 := dkwL_law_164 ++ dktL_law_165
def dkwL_law_163 : List UInt8 := [154, 0, 15, 45, 3, 47, 21, 7, 133, 148, 153, 0, 5, 3, 172, 167, 0, 128, 43, 182, 1, 149, 44]
abbrev dktL_law_163 : List UInt8 := dkwL_law_163 ++ dktL_law_164
def dkwL_law_162 : List UInt8 := [184, 1, 146, 54, 6, 44, 182, 1, 148, 54, 7, 44, 182, 0, 216, 21, 6, 159, 0, 5, 3, 172, 21, 6]
abbrev dktL_law_162 : List UInt8 := dkwL_law_162 ++ dktL_law_163
def dkwL_law_161 : List UInt8 := [172, 21, 6, 154, 0, 15, 45, 3, 47, 21, 7, 133, 148, 153, 0, 5, 3, 172, 167, 0, 172, 43, 45]
abbrev dktL_law_161 : List UInt8 := dkwL_law_161 ++ dktL_law_162
def dkwL_law_160 : List UInt8 := [54, 6, 44, 42, 21, 5, 4, 96, 46, 182, 1, 145, 54, 7, 44, 182, 0, 216, 21, 6, 159, 0, 5, 3]
abbrev dktL_law_160 : List UInt8 := dkwL_law_160 ++ dktL_law_161
def dkwL_law_159 : List UInt8 := [21, 7, 133, 148, 153, 0, 5, 3, 172, 167, 0, 228, 43, 42, 21, 5, 4, 96, 46, 45, 184, 1, 143]
abbrev dktL_law_159 : List UInt8 := dkwL_law_159 ++ dktL_law_160
def dkwL_law_158 : List UInt8 := [182, 1, 142, 54, 7, 44, 182, 0, 216, 21, 6, 159, 0, 5, 3, 172, 21, 6, 154, 0, 15, 45, 3, 47]
abbrev dktL_law_158 : List UInt8 := dkwL_law_158 ++ dktL_law_159
def dkwL_law_157 : List UInt8 := [167, 1, 28, 43, 42, 21, 5, 4, 96, 46, 45, 184, 1, 140, 54, 6, 44, 42, 21, 5, 4, 96, 46]
abbrev dktL_law_157 : List UInt8 := dkwL_law_157 ++ dktL_law_158
def dkwL_law_156 : List UInt8 := [159, 0, 5, 3, 172, 21, 6, 154, 0, 15, 45, 3, 47, 21, 7, 133, 148, 153, 0, 5, 3, 172]
abbrev dktL_law_156 : List UInt8 := dkwL_law_156 ++ dktL_law_157
def dkwL_law_155 : List UInt8 := [184, 1, 137, 54, 6, 44, 42, 21, 5, 4, 96, 46, 182, 1, 139, 54, 7, 44, 182, 0, 216, 21, 6]
abbrev dktL_law_155 : List UInt8 := dkwL_law_155 ++ dktL_law_156
def dkwL_law_154 : List UInt8 := [45, 3, 47, 21, 7, 133, 148, 153, 0, 5, 3, 172, 167, 1, 84, 43, 42, 21, 5, 4, 96, 46, 45]
abbrev dktL_law_154 : List UInt8 := dkwL_law_154 ++ dktL_law_155
def dkwL_law_153 : List UInt8 := [54, 6, 44, 182, 1, 136, 54, 7, 44, 182, 0, 216, 21, 6, 159, 0, 5, 3, 172, 21, 6, 154, 0, 15]
abbrev dktL_law_153 : List UInt8 := dkwL_law_153 ++ dktL_law_154
def dkwL_law_152 : List UInt8 := [154, 0, 15, 45, 3, 47, 21, 7, 133, 148, 153, 0, 5, 3, 172, 167, 1, 128, 43, 45, 184, 1, 134]
abbrev dktL_law_152 : List UInt8 := dkwL_law_152 ++ dktL_law_153
def dkwL_law_151 : List UInt8 := [21, 5, 4, 96, 46, 182, 1, 133, 54, 7, 44, 182, 0, 216, 21, 6, 159, 0, 5, 3, 172, 21, 6]
abbrev dktL_law_151 : List UInt8 := dkwL_law_151 ++ dktL_law_152
def dkwL_law_150 : List UInt8 := [153, 0, 5, 3, 172, 167, 1, 184, 43, 42, 21, 5, 4, 96, 46, 45, 184, 1, 131, 54, 6, 44, 42]
abbrev dktL_law_150 : List UInt8 := dkwL_law_150 ++ dktL_law_151
def dkwL_law_149 : List UInt8 := [182, 0, 216, 21, 6, 159, 0, 5, 3, 172, 21, 6, 154, 0, 15, 45, 3, 47, 21, 7, 133, 148]
abbrev dktL_law_149 : List UInt8 := dkwL_law_149 ++ dktL_law_150
def dkwL_law_148 : List UInt8 := [153, 0, 5, 3, 172, 167, 1, 228, 43, 45, 184, 1, 128, 54, 6, 44, 182, 1, 130, 54, 7, 44]
abbrev dktL_law_148 : List UInt8 := dkwL_law_148 ++ dktL_law_149
def dkwL_law_147 : List UInt8 := [182, 0, 216, 21, 6, 159, 0, 5, 3, 172, 21, 6, 154, 0, 15, 45, 3, 47, 21, 7, 133, 148]
abbrev dktL_law_147 : List UInt8 := dkwL_law_147 ++ dktL_law_148
def dkwL_law_146 : List UInt8 := [42, 21, 5, 4, 96, 46, 42, 21, 5, 5, 96, 46, 42, 21, 5, 6, 96, 46, 182, 1, 127, 54, 7, 44]
abbrev dktL_law_146 : List UInt8 := dkwL_law_146 ++ dktL_law_147
def dkwL_law_145 : List UInt8 := [21, 5, 4, 96, 46, 42, 21, 5, 5, 96, 46, 42, 21, 5, 6, 96, 46, 45, 184, 1, 125, 54, 6, 44]
abbrev dktL_law_145 : List UInt8 := dkwL_law_145 ++ dktL_law_146
def dkwL_law_144 : List UInt8 := [172, 21, 6, 154, 0, 15, 45, 3, 47, 21, 7, 133, 148, 153, 0, 5, 3, 172, 167, 2, 52, 43, 42]
abbrev dktL_law_144 : List UInt8 := dkwL_law_144 ++ dktL_law_145
def dkwL_law_143 : List UInt8 := [54, 6, 44, 42, 21, 5, 4, 96, 46, 182, 1, 124, 54, 7, 44, 182, 0, 216, 21, 6, 159, 0, 5, 3]
abbrev dktL_law_143 : List UInt8 := dkwL_law_143 ++ dktL_law_144
def dkwL_law_142 : List UInt8 := [21, 7, 133, 148, 153, 0, 5, 3, 172, 167, 2, 108, 43, 42, 21, 5, 4, 96, 46, 45, 184, 1, 122]
abbrev dktL_law_142 : List UInt8 := dkwL_law_142 ++ dktL_law_143
def dkwL_law_141 : List UInt8 := [182, 1, 121, 54, 7, 44, 182, 0, 216, 21, 6, 159, 0, 5, 3, 172, 21, 6, 154, 0, 15, 45, 3, 47]
abbrev dktL_law_141 : List UInt8 := dkwL_law_141 ++ dktL_law_142
def dkwL_law_140 : List UInt8 := [167, 2, 164, 43, 42, 21, 5, 4, 96, 46, 45, 184, 1, 119, 54, 6, 44, 42, 21, 5, 4, 96, 46]
abbrev dktL_law_140 : List UInt8 := dkwL_law_140 ++ dktL_law_141
def dkwL_law_139 : List UInt8 := [159, 0, 5, 3, 172, 21, 6, 154, 0, 15, 45, 3, 47, 21, 7, 133, 148, 153, 0, 5, 3, 172]
abbrev dktL_law_139 : List UInt8 := dkwL_law_139 ++ dktL_law_140
def dkwL_law_138 : List UInt8 := [21, 5, 4, 96, 46, 42, 21, 5, 5, 96, 46, 182, 1, 118, 54, 7, 44, 182, 0, 216, 21, 6]
abbrev dktL_law_138 : List UInt8 := dkwL_law_138 ++ dktL_law_139
def dkwL_law_137 : List UInt8 := [167, 2, 232, 43, 42, 21, 5, 4, 96, 46, 42, 21, 5, 5, 96, 46, 45, 184, 1, 116, 54, 6, 44, 42]
abbrev dktL_law_137 : List UInt8 := dkwL_law_137 ++ dktL_law_138
def dkwL_law_136 : List UInt8 := [159, 0, 5, 3, 172, 21, 6, 154, 0, 15, 45, 3, 47, 21, 7, 133, 148, 153, 0, 5, 3, 172]
abbrev dktL_law_136 : List UInt8 := dkwL_law_136 ++ dktL_law_137
def dkwL_law_135 : List UInt8 := [21, 5, 4, 96, 46, 42, 21, 5, 5, 96, 46, 182, 1, 115, 54, 7, 44, 182, 0, 216, 21, 6]
abbrev dktL_law_135 : List UInt8 := dkwL_law_135 ++ dktL_law_136
def dkwL_law_134 : List UInt8 := [167, 3, 44, 43, 42, 21, 5, 4, 96, 46, 42, 21, 5, 5, 96, 46, 45, 184, 1, 113, 54, 6, 44, 42]
abbrev dktL_law_134 : List UInt8 := dkwL_law_134 ++ dktL_law_135
def dkwL_law_133 : List UInt8 := [21, 6, 159, 0, 5, 3, 172, 21, 6, 154, 0, 15, 45, 3, 47, 21, 7, 133, 148, 153, 0, 5, 3, 172]
abbrev dktL_law_133 : List UInt8 := dkwL_law_133 ++ dktL_law_134
def dkwL_law_132 : List UInt8 := [46, 45, 184, 1, 110, 54, 6, 44, 42, 21, 5, 4, 96, 46, 182, 1, 112, 54, 7, 44, 182, 0, 216]
abbrev dktL_law_132 : List UInt8 := dkwL_law_132 ++ dktL_law_133
def dkwL_law_131 : List UInt8 := [154, 0, 15, 45, 3, 47, 21, 7, 133, 148, 153, 0, 5, 3, 172, 167, 3, 100, 43, 42, 21, 5, 4, 96]
abbrev dktL_law_131 : List UInt8 := dkwL_law_131 ++ dktL_law_132
def dkwL_law_130 : List UInt8 := [184, 1, 107, 54, 6, 44, 182, 1, 109, 54, 7, 44, 182, 0, 216, 21, 6, 159, 0, 5, 3, 172, 21, 6]
abbrev dktL_law_130 : List UInt8 := dkwL_law_130 ++ dktL_law_131
def dkwL_law_129 : List UInt8 := [172, 21, 6, 154, 0, 15, 45, 3, 47, 21, 7, 133, 148, 153, 0, 5, 3, 172, 167, 3, 144, 43, 45]
abbrev dktL_law_129 : List UInt8 := dkwL_law_129 ++ dktL_law_130
def dkwL_law_128 : List UInt8 := [54, 6, 44, 42, 21, 5, 4, 96, 46, 182, 1, 106, 54, 7, 44, 182, 0, 216, 21, 6, 159, 0, 5, 3]
abbrev dktL_law_128 : List UInt8 := dkwL_law_128 ++ dktL_law_129
def dkwL_law_127 : List UInt8 := [21, 7, 133, 148, 153, 0, 5, 3, 172, 167, 3, 200, 43, 42, 21, 5, 4, 96, 46, 45, 184, 1, 104]
abbrev dktL_law_127 : List UInt8 := dkwL_law_127 ++ dktL_law_128
def dkwL_law_126 : List UInt8 := [182, 1, 103, 54, 7, 44, 182, 0, 216, 21, 6, 159, 0, 5, 3, 172, 21, 6, 154, 0, 15, 45, 3, 47]
abbrev dktL_law_126 : List UInt8 := dkwL_law_126 ++ dktL_law_127
def dkwL_law_125 : List UInt8 := [167, 4, 0, 43, 42, 21, 5, 4, 96, 46, 45, 184, 1, 101, 54, 6, 44, 42, 21, 5, 4, 96, 46]
abbrev dktL_law_125 : List UInt8 := dkwL_law_125 ++ dktL_law_126
def dkwL_law_124 : List UInt8 := [159, 0, 5, 3, 172, 21, 6, 154, 0, 15, 45, 3, 47, 21, 7, 133, 148, 153, 0, 5, 3, 172]
abbrev dktL_law_124 : List UInt8 := dkwL_law_124 ++ dktL_law_125
def dkwL_law_123 : List UInt8 := [184, 1, 98, 54, 6, 44, 42, 21, 5, 4, 96, 46, 182, 1, 100, 54, 7, 44, 182, 0, 216, 21, 6]
abbrev dktL_law_123 : List UInt8 := dkwL_law_123 ++ dktL_law_124
def dkwL_law_122 : List UInt8 := [153, 0, 11, 24, 7, 24, 7, 151, 154, 0, 5, 3, 172, 167, 4, 56, 43, 42, 21, 5, 4, 96, 46, 45]
abbrev dktL_law_122 : List UInt8 := dkwL_law_122 ++ dktL_law_123
def dkwL_law_121 : List UInt8 := [21, 6, 154, 0, 35, 25, 4, 3, 49, 24, 7, 151, 153, 0, 25, 25, 4, 3, 49, 25, 4, 3, 49, 151]
abbrev dktL_law_121 : List UInt8 := dkwL_law_121 ++ dktL_law_122
def dkwL_law_120 : List UInt8 := [25, 4, 184, 1, 95, 54, 6, 44, 182, 1, 97, 57, 7, 44, 182, 0, 216, 21, 6, 159, 0, 5, 3, 172]
abbrev dktL_law_120 : List UInt8 := dkwL_law_120 ++ dktL_law_121
def dkwL_law_119 : List UInt8 := [49, 25, 4, 3, 49, 151, 153, 0, 11, 23, 7, 23, 7, 149, 154, 0, 5, 3, 172, 167, 4, 121, 43]
abbrev dktL_law_119 : List UInt8 := dkwL_law_119 ++ dktL_law_120
def dkwL_law_118 : List UInt8 := [159, 0, 5, 3, 172, 21, 6, 154, 0, 36, 25, 4, 3, 49, 23, 7, 141, 151, 153, 0, 25, 25, 4, 3]
abbrev dktL_law_118 : List UInt8 := dkwL_law_118 ++ dktL_law_119
def dkwL_law_117 : List UInt8 := [167, 4, 187, 43, 25, 4, 184, 1, 91, 54, 6, 44, 182, 1, 94, 56, 7, 44, 182, 0, 216, 21, 6]
abbrev dktL_law_117 : List UInt8 := dkwL_law_117 ++ dktL_law_118
def dkwL_law_116 : List UInt8 := [159, 0, 5, 3, 172, 21, 6, 154, 0, 15, 45, 3, 47, 21, 7, 133, 148, 153, 0, 5, 3, 172]
abbrev dktL_law_116 : List UInt8 := dkwL_law_116 ++ dktL_law_117
def dkwL_law_115 : List UInt8 := [21, 5, 4, 96, 46, 42, 21, 5, 5, 96, 46, 182, 1, 90, 54, 7, 44, 182, 0, 216, 21, 6]
abbrev dktL_law_115 : List UInt8 := dkwL_law_115 ++ dktL_law_116
def dkwL_law_114 : List UInt8 := [167, 4, 255, 43, 42, 21, 5, 4, 96, 46, 42, 21, 5, 5, 96, 46, 45, 184, 1, 88, 54, 6, 44, 42]
abbrev dktL_law_114 : List UInt8 := dkwL_law_114 ++ dktL_law_115
def dkwL_law_113 : List UInt8 := [21, 6, 159, 0, 5, 3, 172, 21, 6, 154, 0, 15, 45, 3, 47, 21, 7, 133, 148, 153, 0, 5, 3, 172]
abbrev dktL_law_113 : List UInt8 := dkwL_law_113 ++ dktL_law_114
def dkwL_law_112 : List UInt8 := [96, 46, 42, 21, 5, 5, 96, 46, 42, 21, 5, 6, 96, 46, 182, 1, 87, 54, 7, 44, 182, 0, 216]
abbrev dktL_law_112 : List UInt8 := dkwL_law_112 ++ dktL_law_113
def dkwL_law_111 : List UInt8 := [46, 42, 21, 5, 5, 96, 46, 42, 21, 5, 6, 96, 46, 45, 184, 1, 85, 54, 6, 44, 42, 21, 5, 4]
abbrev dktL_law_111 : List UInt8 := dkwL_law_111 ++ dktL_law_112
def dkwL_law_110 : List UInt8 := [154, 0, 15, 45, 3, 47, 21, 7, 133, 148, 153, 0, 5, 3, 172, 167, 5, 79, 43, 42, 21, 5, 4, 96]
abbrev dktL_law_110 : List UInt8 := dkwL_law_110 ++ dktL_law_111
def dkwL_law_109 : List UInt8 := [21, 5, 4, 96, 46, 182, 1, 84, 54, 7, 44, 182, 0, 216, 21, 6, 159, 0, 5, 3, 172, 21, 6]
abbrev dktL_law_109 : List UInt8 := dkwL_law_109 ++ dktL_law_110
def dkwL_law_108 : List UInt8 := [153, 0, 5, 3, 172, 167, 5, 135, 43, 42, 21, 5, 4, 96, 46, 45, 184, 1, 82, 54, 6, 44, 42]
abbrev dktL_law_108 : List UInt8 := dkwL_law_108 ++ dktL_law_109
def dkwL_law_107 : List UInt8 := [182, 0, 216, 21, 6, 159, 0, 5, 3, 172, 21, 6, 154, 0, 15, 45, 3, 47, 21, 7, 133, 148]
abbrev dktL_law_107 : List UInt8 := dkwL_law_107 ++ dktL_law_108
def dkwL_law_106 : List UInt8 := [21, 5, 4, 96, 46, 45, 184, 1, 79, 54, 6, 44, 42, 21, 5, 4, 96, 46, 182, 1, 81, 54, 7, 44]
abbrev dktL_law_106 : List UInt8 := dkwL_law_106 ++ dktL_law_107
def dkwL_law_105 : List UInt8 := [172, 21, 6, 154, 0, 15, 45, 3, 47, 21, 7, 133, 148, 153, 0, 5, 3, 172, 167, 5, 191, 43, 42]
abbrev dktL_law_105 : List UInt8 := dkwL_law_105 ++ dktL_law_106
def dkwL_law_104 : List UInt8 := [54, 6, 44, 42, 21, 5, 4, 96, 46, 182, 1, 78, 54, 7, 44, 182, 0, 216, 21, 6, 159, 0, 5, 3]
abbrev dktL_law_104 : List UInt8 := dkwL_law_104 ++ dktL_law_105
def dkwL_law_103 : List UInt8 := [167, 0, 4, 9, 148, 153, 0, 5, 3, 172, 167, 5, 247, 43, 42, 21, 5, 4, 96, 46, 45, 184, 1, 76]
abbrev dktL_law_103 : List UInt8 := dkwL_law_103 ++ dktL_law_104
def dkwL_law_102 : List UInt8 := [182, 0, 216, 21, 6, 159, 0, 5, 3, 172, 21, 6, 154, 0, 22, 45, 3, 47, 21, 7, 153, 0, 7, 10]
abbrev dktL_law_102 : List UInt8 := dkwL_law_102 ++ dktL_law_103
def dkwL_law_101 : List UInt8 := [184, 1, 73, 54, 6, 44, 42, 21, 5, 4, 96, 46, 42, 21, 5, 5, 96, 46, 182, 1, 75, 54, 7, 44]
abbrev dktL_law_101 : List UInt8 := dkwL_law_101 ++ dktL_law_102
def dkwL_law_100 : List UInt8 := [153, 0, 5, 3, 172, 167, 6, 66, 43, 42, 21, 5, 4, 96, 46, 42, 21, 5, 5, 96, 46, 45]
abbrev dktL_law_100 : List UInt8 := dkwL_law_100 ++ dktL_law_101
def dkwL_law_99 : List UInt8 := [182, 0, 216, 21, 6, 159, 0, 5, 3, 172, 21, 6, 154, 0, 15, 45, 3, 47, 21, 7, 133, 148]
abbrev dktL_law_99 : List UInt8 := dkwL_law_99 ++ dktL_law_100
def dkwL_law_98 : List UInt8 := [21, 5, 5, 96, 46, 42, 21, 5, 6, 96, 46, 42, 21, 5, 7, 96, 46, 182, 1, 72, 54, 7, 44]
abbrev dktL_law_98 : List UInt8 := dkwL_law_98 ++ dktL_law_99
def dkwL_law_97 : List UInt8 := [6, 96, 46, 42, 21, 5, 7, 96, 46, 45, 184, 1, 70, 54, 6, 44, 42, 21, 5, 4, 96, 46, 42]
abbrev dktL_law_97 : List UInt8 := dkwL_law_97 ++ dktL_law_98
def dkwL_law_96 : List UInt8 := [153, 0, 5, 3, 172, 167, 6, 158, 43, 42, 21, 5, 4, 96, 46, 42, 21, 5, 5, 96, 46, 42, 21, 5]
abbrev dktL_law_96 : List UInt8 := dkwL_law_96 ++ dktL_law_97
def dkwL_law_95 : List UInt8 := [182, 0, 216, 21, 6, 159, 0, 5, 3, 172, 21, 6, 154, 0, 15, 45, 3, 47, 21, 7, 133, 148]
abbrev dktL_law_95 : List UInt8 := dkwL_law_95 ++ dktL_law_96
def dkwL_law_94 : List UInt8 := [184, 1, 67, 54, 6, 44, 42, 21, 5, 4, 96, 46, 42, 21, 5, 5, 96, 46, 182, 1, 69, 54, 7, 44]
abbrev dktL_law_94 : List UInt8 := dkwL_law_94 ++ dktL_law_95
def dkwL_law_93 : List UInt8 := [148, 153, 0, 5, 3, 172, 167, 6, 226, 43, 42, 21, 5, 4, 96, 46, 42, 21, 5, 5, 96, 46, 45]
abbrev dktL_law_93 : List UInt8 := dkwL_law_93 ++ dktL_law_94
def dkwL_law_92 : List UInt8 := [54, 7, 44, 182, 0, 216, 21, 6, 159, 0, 5, 3, 172, 21, 6, 154, 0, 15, 45, 3, 47, 21, 7, 133]
abbrev dktL_law_92 : List UInt8 := dkwL_law_92 ++ dktL_law_93
def dkwL_law_91 : List UInt8 := [46, 45, 184, 1, 64, 54, 6, 44, 42, 21, 5, 4, 96, 46, 42, 21, 5, 5, 96, 46, 182, 1, 66]
abbrev dktL_law_91 : List UInt8 := dkwL_law_91 ++ dktL_law_92
def dkwL_law_90 : List UInt8 := [21, 7, 133, 148, 153, 0, 5, 3, 172, 167, 7, 38, 43, 42, 21, 5, 4, 96, 46, 42, 21, 5, 5, 96]
abbrev dktL_law_90 : List UInt8 := dkwL_law_90 ++ dktL_law_91
def dkwL_law_89 : List UInt8 := [182, 1, 63, 54, 7, 44, 182, 0, 216, 21, 6, 159, 0, 5, 3, 172, 21, 6, 154, 0, 15, 45, 3, 47]
abbrev dktL_law_89 : List UInt8 := dkwL_law_89 ++ dktL_law_90
def dkwL_law_88 : List UInt8 := [167, 7, 94, 43, 42, 21, 5, 4, 96, 46, 45, 184, 1, 61, 54, 6, 44, 42, 21, 5, 4, 96, 46]
abbrev dktL_law_88 : List UInt8 := dkwL_law_88 ++ dktL_law_89
def dkwL_law_87 : List UInt8 := [21, 6, 159, 0, 5, 3, 172, 21, 6, 154, 0, 15, 45, 3, 47, 21, 7, 133, 148, 153, 0, 5, 3, 172]
abbrev dktL_law_87 : List UInt8 := dkwL_law_87 ++ dktL_law_88
def dkwL_law_86 : List UInt8 := [46, 45, 184, 1, 58, 54, 6, 44, 42, 21, 5, 4, 96, 46, 182, 1, 60, 54, 7, 44, 182, 0, 216]
abbrev dktL_law_86 : List UInt8 := dkwL_law_86 ++ dktL_law_87
def dkwL_law_85 : List UInt8 := [154, 0, 15, 45, 3, 47, 21, 7, 133, 148, 153, 0, 5, 3, 172, 167, 7, 150, 43, 42, 21, 5, 4, 96]
abbrev dktL_law_85 : List UInt8 := dkwL_law_85 ++ dktL_law_86
def dkwL_law_84 : List UInt8 := [21, 5, 4, 96, 46, 182, 1, 57, 54, 7, 44, 182, 0, 216, 21, 6, 159, 0, 5, 3, 172, 21, 6]
abbrev dktL_law_84 : List UInt8 := dkwL_law_84 ++ dktL_law_85
def dkwL_law_83 : List UInt8 := [153, 0, 5, 3, 172, 167, 7, 206, 43, 42, 21, 5, 4, 96, 46, 45, 184, 1, 55, 54, 6, 44, 42]
abbrev dktL_law_83 : List UInt8 := dkwL_law_83 ++ dktL_law_84
def dkwL_law_82 : List UInt8 := [182, 0, 216, 21, 6, 159, 0, 5, 3, 172, 21, 6, 154, 0, 15, 45, 3, 47, 21, 7, 133, 148]
abbrev dktL_law_82 : List UInt8 := dkwL_law_82 ++ dktL_law_83
def dkwL_law_81 : List UInt8 := [184, 1, 52, 54, 6, 44, 42, 21, 5, 4, 96, 46, 42, 21, 5, 5, 96, 46, 182, 1, 54, 54, 7, 44]
abbrev dktL_law_81 : List UInt8 := dkwL_law_81 ++ dktL_law_82
def dkwL_law_80 : List UInt8 := [148, 153, 0, 5, 3, 172, 167, 8, 18, 43, 42, 21, 5, 4, 96, 46, 42, 21, 5, 5, 96, 46, 45]
abbrev dktL_law_80 : List UInt8 := dkwL_law_80 ++ dktL_law_81
def dkwL_law_79 : List UInt8 := [54, 7, 44, 182, 0, 216, 21, 6, 159, 0, 5, 3, 172, 21, 6, 154, 0, 15, 45, 3, 47, 21, 7, 133]
abbrev dktL_law_79 : List UInt8 := dkwL_law_79 ++ dktL_law_80
def dkwL_law_78 : List UInt8 := [21, 7, 133, 148, 153, 0, 5, 3, 172, 167, 8, 62, 43, 45, 184, 1, 49, 54, 6, 44, 182, 1, 51]
abbrev dktL_law_78 : List UInt8 := dkwL_law_78 ++ dktL_law_79
def dkwL_law_77 : List UInt8 := [182, 1, 48, 54, 7, 44, 182, 0, 216, 21, 6, 159, 0, 5, 3, 172, 21, 6, 154, 0, 15, 45, 3, 47]
abbrev dktL_law_77 : List UInt8 := dkwL_law_77 ++ dktL_law_78
def dkwL_law_76 : List UInt8 := [167, 8, 118, 43, 42, 21, 5, 4, 96, 46, 45, 184, 1, 46, 54, 6, 44, 42, 21, 5, 4, 96, 46]
abbrev dktL_law_76 : List UInt8 := dkwL_law_76 ++ dktL_law_77
def dkwL_law_75 : List UInt8 := [159, 0, 5, 3, 172, 21, 6, 154, 0, 15, 45, 3, 47, 21, 7, 133, 148, 153, 0, 5, 3, 172]
abbrev dktL_law_75 : List UInt8 := dkwL_law_75 ++ dktL_law_76
def dkwL_law_74 : List UInt8 := [167, 8, 162, 43, 45, 184, 1, 43, 54, 6, 44, 182, 1, 45, 54, 7, 44, 182, 0, 216, 21, 6]
abbrev dktL_law_74 : List UInt8 := dkwL_law_74 ++ dktL_law_75
def dkwL_law_73 : List UInt8 := [21, 6, 159, 0, 5, 3, 172, 21, 6, 154, 0, 15, 45, 3, 47, 21, 7, 133, 148, 153, 0, 5, 3, 172]
abbrev dktL_law_73 : List UInt8 := dkwL_law_73 ++ dktL_law_74
def dkwL_law_72 : List UInt8 := [46, 45, 184, 1, 40, 54, 6, 44, 42, 21, 5, 4, 96, 46, 182, 1, 42, 54, 7, 44, 182, 0, 216]
abbrev dktL_law_72 : List UInt8 := dkwL_law_72 ++ dktL_law_73
def dkwL_law_71 : List UInt8 := [154, 0, 15, 45, 3, 47, 21, 7, 133, 148, 153, 0, 5, 3, 172, 167, 8, 218, 43, 42, 21, 5, 4, 96]
abbrev dktL_law_71 : List UInt8 := dkwL_law_71 ++ dktL_law_72
def dkwL_law_70 : List UInt8 := [21, 5, 4, 96, 46, 182, 1, 39, 54, 7, 44, 182, 0, 216, 21, 6, 159, 0, 5, 3, 172, 21, 6]
abbrev dktL_law_70 : List UInt8 := dkwL_law_70 ++ dktL_law_71
def dkwL_law_69 : List UInt8 := [153, 0, 5, 3, 172, 167, 9, 18, 43, 42, 21, 5, 4, 96, 46, 45, 184, 1, 37, 54, 6, 44, 42]
abbrev dktL_law_69 : List UInt8 := dkwL_law_69 ++ dktL_law_70
def dkwL_law_68 : List UInt8 := [182, 0, 216, 21, 6, 159, 0, 5, 3, 172, 21, 6, 154, 0, 15, 45, 3, 47, 21, 7, 133, 148]
abbrev dktL_law_68 : List UInt8 := dkwL_law_68 ++ dktL_law_69
def dkwL_law_67 : List UInt8 := [21, 5, 4, 96, 46, 45, 184, 1, 34, 54, 6, 44, 42, 21, 5, 4, 96, 46, 182, 1, 36, 54, 7, 44]
abbrev dktL_law_67 : List UInt8 := dkwL_law_67 ++ dktL_law_68
def dkwL_law_66 : List UInt8 := [172, 21, 6, 154, 0, 15, 45, 3, 47, 21, 7, 133, 148, 153, 0, 5, 3, 172, 167, 9, 74, 43, 42]
abbrev dktL_law_66 : List UInt8 := dkwL_law_66 ++ dktL_law_67
def dkwL_law_65 : List UInt8 := [54, 6, 44, 42, 21, 5, 4, 96, 46, 182, 1, 33, 54, 7, 44, 182, 0, 216, 21, 6, 159, 0, 5, 3]
abbrev dktL_law_65 : List UInt8 := dkwL_law_65 ++ dktL_law_66
def dkwL_law_64 : List UInt8 := [21, 7, 133, 148, 153, 0, 5, 3, 172, 167, 9, 130, 43, 42, 21, 5, 4, 96, 46, 45, 184, 1, 31]
abbrev dktL_law_64 : List UInt8 := dkwL_law_64 ++ dktL_law_65
def dkwL_law_63 : List UInt8 := [182, 1, 30, 54, 7, 44, 182, 0, 216, 21, 6, 159, 0, 5, 3, 172, 21, 6, 154, 0, 15, 45, 3, 47]
abbrev dktL_law_63 : List UInt8 := dkwL_law_63 ++ dktL_law_64
def dkwL_law_62 : List UInt8 := [167, 9, 186, 43, 42, 21, 5, 4, 96, 46, 45, 184, 1, 28, 54, 6, 44, 42, 21, 5, 4, 96, 46]
abbrev dktL_law_62 : List UInt8 := dkwL_law_62 ++ dktL_law_63
def dkwL_law_61 : List UInt8 := [159, 0, 5, 3, 172, 21, 6, 154, 0, 15, 45, 3, 47, 21, 7, 133, 148, 153, 0, 5, 3, 172]
abbrev dktL_law_61 : List UInt8 := dkwL_law_61 ++ dktL_law_62
def dkwL_law_60 : List UInt8 := [21, 5, 4, 96, 46, 42, 21, 5, 5, 96, 46, 182, 1, 27, 54, 7, 44, 182, 0, 216, 21, 6]
abbrev dktL_law_60 : List UInt8 := dkwL_law_60 ++ dktL_law_61
def dkwL_law_59 : List UInt8 := [167, 9, 254, 43, 42, 21, 5, 4, 96, 46, 42, 21, 5, 5, 96, 46, 45, 184, 1, 25, 54, 6, 44, 42]
abbrev dktL_law_59 : List UInt8 := dkwL_law_59 ++ dktL_law_60
def dkwL_law_58 : List UInt8 := [159, 0, 5, 3, 172, 21, 6, 154, 0, 15, 45, 3, 47, 21, 7, 133, 148, 153, 0, 5, 3, 172]
abbrev dktL_law_58 : List UInt8 := dkwL_law_58 ++ dktL_law_59
def dkwL_law_57 : List UInt8 := [21, 5, 4, 96, 46, 42, 21, 5, 5, 96, 46, 182, 1, 24, 54, 7, 44, 182, 0, 216, 21, 6]
abbrev dktL_law_57 : List UInt8 := dkwL_law_57 ++ dktL_law_58
def dkwL_law_56 : List UInt8 := [167, 10, 66, 43, 42, 21, 5, 4, 96, 46, 42, 21, 5, 5, 96, 46, 45, 184, 1, 22, 54, 6, 44, 42]
abbrev dktL_law_56 : List UInt8 := dkwL_law_56 ++ dktL_law_57
def dkwL_law_55 : List UInt8 := [159, 0, 5, 3, 172, 21, 6, 154, 0, 15, 45, 3, 47, 21, 7, 133, 148, 153, 0, 5, 3, 172]
abbrev dktL_law_55 : List UInt8 := dkwL_law_55 ++ dktL_law_56
def dkwL_law_54 : List UInt8 := [21, 5, 4, 96, 46, 42, 21, 5, 5, 96, 46, 182, 1, 21, 54, 7, 44, 182, 0, 216, 21, 6]
abbrev dktL_law_54 : List UInt8 := dkwL_law_54 ++ dktL_law_55
def dkwL_law_53 : List UInt8 := [167, 10, 134, 43, 42, 21, 5, 4, 96, 46, 42, 21, 5, 5, 96, 46, 45, 184, 1, 19, 54, 6, 44, 42]
abbrev dktL_law_53 : List UInt8 := dkwL_law_53 ++ dktL_law_54
def dkwL_law_52 : List UInt8 := [159, 0, 5, 3, 172, 21, 6, 154, 0, 15, 45, 3, 47, 21, 7, 133, 148, 153, 0, 5, 3, 172]
abbrev dktL_law_52 : List UInt8 := dkwL_law_52 ++ dktL_law_53
def dkwL_law_51 : List UInt8 := [42, 21, 5, 5, 96, 46, 42, 21, 5, 6, 96, 46, 182, 1, 18, 54, 7, 44, 182, 0, 216, 21, 6]
abbrev dktL_law_51 : List UInt8 := dkwL_law_51 ++ dktL_law_52
def dkwL_law_50 : List UInt8 := [21, 5, 5, 96, 46, 42, 21, 5, 6, 96, 46, 45, 184, 1, 16, 54, 6, 44, 42, 21, 5, 4, 96, 46]
abbrev dktL_law_50 : List UInt8 := dkwL_law_50 ++ dktL_law_51
def dkwL_law_49 : List UInt8 := [45, 3, 47, 21, 7, 133, 148, 153, 0, 5, 3, 172, 167, 10, 214, 43, 42, 21, 5, 4, 96, 46, 42]
abbrev dktL_law_49 : List UInt8 := dkwL_law_49 ++ dktL_law_50
def dkwL_law_48 : List UInt8 := [7, 96, 46, 182, 1, 15, 54, 7, 44, 182, 0, 216, 21, 6, 159, 0, 5, 3, 172, 21, 6, 154, 0, 15]
abbrev dktL_law_48 : List UInt8 := dkwL_law_48 ++ dktL_law_49
def dkwL_law_47 : List UInt8 := [54, 6, 44, 42, 21, 5, 4, 96, 46, 42, 21, 5, 5, 96, 46, 42, 21, 5, 6, 96, 46, 42, 21, 5]
abbrev dktL_law_47 : List UInt8 := dkwL_law_47 ++ dktL_law_48
def dkwL_law_46 : List UInt8 := [46, 42, 21, 5, 5, 96, 46, 42, 21, 5, 6, 96, 46, 42, 21, 5, 7, 96, 46, 45, 184, 1, 13]
abbrev dktL_law_46 : List UInt8 := dkwL_law_46 ++ dktL_law_47
def dkwL_law_45 : List UInt8 := [154, 0, 15, 45, 3, 47, 21, 7, 133, 148, 153, 0, 5, 3, 172, 167, 11, 50, 43, 42, 21, 5, 4, 96]
abbrev dktL_law_45 : List UInt8 := dkwL_law_45 ++ dktL_law_46
def dkwL_law_44 : List UInt8 := [42, 21, 5, 6, 96, 46, 182, 1, 12, 54, 7, 44, 182, 0, 216, 21, 6, 159, 0, 5, 3, 172, 21, 6]
abbrev dktL_law_44 : List UInt8 := dkwL_law_44 ++ dktL_law_45
def dkwL_law_43 : List UInt8 := [21, 5, 6, 96, 46, 45, 184, 1, 9, 54, 6, 44, 42, 21, 5, 4, 96, 46, 42, 21, 5, 5, 96, 46]
abbrev dktL_law_43 : List UInt8 := dkwL_law_43 ++ dktL_law_44
def dkwL_law_42 : List UInt8 := [148, 153, 0, 5, 3, 172, 167, 11, 130, 43, 42, 21, 5, 4, 96, 46, 42, 21, 5, 5, 96, 46, 42]
abbrev dktL_law_42 : List UInt8 := dkwL_law_42 ++ dktL_law_43
def dkwL_law_41 : List UInt8 := [54, 7, 44, 182, 0, 216, 21, 6, 159, 0, 5, 3, 172, 21, 6, 154, 0, 15, 45, 3, 47, 21, 7, 133]
abbrev dktL_law_41 : List UInt8 := dkwL_law_41 ++ dktL_law_42
def dkwL_law_40 : List UInt8 := [46, 45, 184, 1, 6, 54, 6, 44, 42, 21, 5, 4, 96, 46, 42, 21, 5, 5, 96, 46, 182, 1, 8]
abbrev dktL_law_40 : List UInt8 := dkwL_law_40 ++ dktL_law_41
def dkwL_law_39 : List UInt8 := [21, 7, 133, 148, 153, 0, 5, 3, 172, 167, 11, 198, 43, 42, 21, 5, 4, 96, 46, 42, 21, 5, 5, 96]
abbrev dktL_law_39 : List UInt8 := dkwL_law_39 ++ dktL_law_40
def dkwL_law_38 : List UInt8 := [182, 1, 5, 54, 7, 44, 182, 0, 216, 21, 6, 159, 0, 5, 3, 172, 21, 6, 154, 0, 15, 45, 3, 47]
abbrev dktL_law_38 : List UInt8 := dkwL_law_38 ++ dktL_law_39
def dkwL_law_37 : List UInt8 := [21, 5, 5, 96, 46, 45, 184, 1, 3, 54, 6, 44, 42, 21, 5, 4, 96, 46, 42, 21, 5, 5, 96, 46]
abbrev dktL_law_37 : List UInt8 := dkwL_law_37 ++ dktL_law_38
def dkwL_law_36 : List UInt8 := [45, 3, 47, 21, 7, 133, 148, 153, 0, 5, 3, 172, 167, 12, 10, 43, 42, 21, 5, 4, 96, 46, 42]
abbrev dktL_law_36 : List UInt8 := dkwL_law_36 ++ dktL_law_37
def dkwL_law_35 : List UInt8 := [7, 96, 46, 182, 1, 2, 54, 7, 44, 182, 0, 216, 21, 6, 159, 0, 5, 3, 172, 21, 6, 154, 0, 15]
abbrev dktL_law_35 : List UInt8 := dkwL_law_35 ++ dktL_law_36
def dkwL_law_34 : List UInt8 := [54, 6, 44, 42, 21, 5, 4, 96, 46, 42, 21, 5, 5, 96, 46, 42, 21, 5, 6, 96, 46, 42, 21, 5]
abbrev dktL_law_34 : List UInt8 := dkwL_law_34 ++ dktL_law_35
def dkwL_law_33 : List UInt8 := [46, 42, 21, 5, 5, 96, 46, 42, 21, 5, 6, 96, 46, 42, 21, 5, 7, 96, 46, 45, 184, 1, 0]
abbrev dktL_law_33 : List UInt8 := dkwL_law_33 ++ dktL_law_34
def dkwL_law_32 : List UInt8 := [154, 0, 15, 45, 3, 47, 21, 7, 133, 148, 153, 0, 5, 3, 172, 167, 12, 102, 43, 42, 21, 5, 4, 96]
abbrev dktL_law_32 : List UInt8 := dkwL_law_32 ++ dktL_law_33
def dkwL_law_31 : List UInt8 := [21, 5, 4, 96, 46, 182, 0, 255, 54, 7, 44, 182, 0, 216, 21, 6, 159, 0, 5, 3, 172, 21, 6]
abbrev dktL_law_31 : List UInt8 := dkwL_law_31 ++ dktL_law_32
def dkwL_law_30 : List UInt8 := [153, 0, 5, 3, 172, 167, 12, 158, 43, 42, 21, 5, 4, 96, 46, 45, 184, 0, 253, 54, 6, 44, 42]
abbrev dktL_law_30 : List UInt8 := dkwL_law_30 ++ dktL_law_31
def dkwL_law_29 : List UInt8 := [182, 0, 216, 21, 6, 159, 0, 5, 3, 172, 21, 6, 154, 0, 15, 45, 3, 47, 21, 7, 133, 148]
abbrev dktL_law_29 : List UInt8 := dkwL_law_29 ++ dktL_law_30
def dkwL_law_28 : List UInt8 := [184, 0, 249, 54, 6, 44, 42, 21, 5, 4, 96, 46, 42, 21, 5, 5, 96, 46, 182, 0, 252, 54, 7, 44]
abbrev dktL_law_28 : List UInt8 := dkwL_law_28 ++ dktL_law_29
def dkwL_law_27 : List UInt8 := [148, 153, 0, 5, 3, 172, 167, 12, 226, 43, 42, 21, 5, 4, 96, 46, 42, 21, 5, 5, 96, 46, 45]
abbrev dktL_law_27 : List UInt8 := dkwL_law_27 ++ dktL_law_28
def dkwL_law_26 : List UInt8 := [54, 7, 44, 182, 0, 216, 21, 6, 159, 0, 5, 3, 172, 21, 6, 154, 0, 15, 45, 3, 47, 21, 7, 133]
abbrev dktL_law_26 : List UInt8 := dkwL_law_26 ++ dktL_law_27
def dkwL_law_25 : List UInt8 := [21, 7, 133, 148, 153, 0, 5, 3, 172, 167, 13, 14, 43, 45, 184, 0, 245, 54, 6, 44, 182, 0, 248]
abbrev dktL_law_25 : List UInt8 := dkwL_law_25 ++ dktL_law_26
def dkwL_law_24 : List UInt8 := [182, 0, 244, 54, 7, 44, 182, 0, 216, 21, 6, 159, 0, 5, 3, 172, 21, 6, 154, 0, 15, 45, 3, 47]
abbrev dktL_law_24 : List UInt8 := dkwL_law_24 ++ dktL_law_25
def dkwL_law_23 : List UInt8 := [42, 21, 5, 5, 96, 46, 42, 21, 5, 6, 96, 46, 42, 21, 5, 7, 96, 46, 42, 21, 5, 8, 96, 46]
abbrev dktL_law_23 : List UInt8 := dkwL_law_23 ++ dktL_law_24
def dkwL_law_22 : List UInt8 := [21, 5, 7, 96, 46, 42, 21, 5, 8, 96, 46, 45, 184, 0, 242, 54, 6, 44, 42, 21, 5, 4, 96, 46]
abbrev dktL_law_22 : List UInt8 := dkwL_law_22 ++ dktL_law_23
def dkwL_law_21 : List UInt8 := [167, 13, 118, 43, 42, 21, 5, 4, 96, 46, 42, 21, 5, 5, 96, 46, 42, 21, 5, 6, 96, 46, 42]
abbrev dktL_law_21 : List UInt8 := dkwL_law_21 ++ dktL_law_22
def dkwL_law_20 : List UInt8 := [154, 0, 22, 45, 3, 47, 21, 7, 153, 0, 7, 10, 167, 0, 4, 9, 148, 153, 0, 5, 3, 172]
abbrev dktL_law_20 : List UInt8 := dkwL_law_20 ++ dktL_law_21
def dkwL_law_19 : List UInt8 := [21, 5, 8, 96, 46, 182, 0, 241, 54, 7, 44, 182, 0, 216, 21, 6, 159, 0, 5, 3, 172, 21, 6]
abbrev dktL_law_19 : List UInt8 := dkwL_law_19 ++ dktL_law_20
def dkwL_law_18 : List UInt8 := [21, 5, 4, 96, 46, 42, 21, 5, 5, 96, 46, 42, 21, 5, 6, 96, 46, 42, 21, 5, 7, 96, 46, 42]
abbrev dktL_law_18 : List UInt8 := dkwL_law_18 ++ dktL_law_19
def dkwL_law_17 : List UInt8 := [6, 96, 46, 42, 21, 5, 7, 96, 46, 42, 21, 5, 8, 96, 46, 45, 184, 0, 238, 54, 6, 44, 42]
abbrev dktL_law_17 : List UInt8 := dkwL_law_17 ++ dktL_law_18
def dkwL_law_16 : List UInt8 := [153, 0, 5, 3, 172, 167, 13, 229, 43, 42, 21, 5, 4, 96, 46, 42, 21, 5, 5, 96, 46, 42, 21, 5]
abbrev dktL_law_16 : List UInt8 := dkwL_law_16 ++ dktL_law_17
def dkwL_law_15 : List UInt8 := [182, 0, 216, 21, 6, 159, 0, 5, 3, 172, 21, 6, 154, 0, 15, 45, 3, 47, 21, 7, 133, 148]
abbrev dktL_law_15 : List UInt8 := dkwL_law_15 ++ dktL_law_16
def dkwL_law_14 : List UInt8 := [42, 21, 5, 5, 96, 46, 42, 21, 5, 6, 96, 46, 42, 21, 5, 7, 96, 46, 182, 0, 237, 54, 7, 44]
abbrev dktL_law_14 : List UInt8 := dkwL_law_14 ++ dktL_law_15
def dkwL_law_13 : List UInt8 := [21, 5, 6, 96, 46, 42, 21, 5, 7, 96, 46, 45, 184, 0, 234, 54, 6, 44, 42, 21, 5, 4, 96, 46]
abbrev dktL_law_13 : List UInt8 := dkwL_law_13 ++ dktL_law_14
def dkwL_law_12 : List UInt8 := [148, 153, 0, 5, 3, 172, 167, 14, 65, 43, 42, 21, 5, 4, 96, 46, 42, 21, 5, 5, 96, 46, 42]
abbrev dktL_law_12 : List UInt8 := dkwL_law_12 ++ dktL_law_13
def dkwL_law_11 : List UInt8 := [54, 7, 44, 182, 0, 216, 21, 6, 159, 0, 5, 3, 172, 21, 6, 154, 0, 15, 45, 3, 47, 21, 7, 133]
abbrev dktL_law_11 : List UInt8 := dkwL_law_11 ++ dktL_law_12
def dkwL_law_10 : List UInt8 := [172, 43, 42, 21, 5, 4, 96, 46, 45, 184, 0, 231, 54, 6, 44, 42, 21, 5, 4, 96, 46, 182, 0, 233]
abbrev dktL_law_10 : List UInt8 := dkwL_law_10 ++ dktL_law_11
def dkwL_law_9 : List UInt8 := [182, 0, 223, 44, 182, 0, 226, 159, 14, 136, 3, 172, 43, 182, 0, 227, 44, 182, 0, 230, 159, 14, 123, 3]
abbrev dktL_law_9 : List UInt8 := dkwL_law_9 ++ dktL_law_10
def dkwL_law_8 : List UInt8 := [148, 153, 0, 5, 3, 172, 167, 14, 160, 43, 182, 0, 219, 44, 182, 0, 222, 159, 14, 149, 3, 172, 43]
abbrev dktL_law_8 : List UInt8 := dkwL_law_8 ++ dktL_law_9
def dkwL_law_7 : List UInt8 := [54, 7, 44, 182, 0, 216, 21, 6, 159, 0, 5, 3, 172, 21, 6, 154, 0, 15, 45, 3, 47, 21, 7, 133]
abbrev dktL_law_7 : List UInt8 := dkwL_law_7 ++ dktL_law_8
def dkwL_law_6 : List UInt8 := [172, 43, 42, 21, 5, 4, 96, 46, 45, 184, 0, 210, 54, 6, 44, 42, 21, 5, 4, 96, 46, 182, 0, 215]
abbrev dktL_law_6 : List UInt8 := dkwL_law_6 ++ dktL_law_7
def dkwL_law_5 : List UInt8 := [21, 5, 6, 96, 46, 42, 21, 5, 7, 96, 46, 42, 21, 5, 8, 96, 46, 182, 0, 209, 159, 14, 218, 3]
abbrev dktL_law_5 : List UInt8 := dkwL_law_5 ++ dktL_law_6
def dkwL_law_4 : List UInt8 := [46, 42, 21, 5, 8, 96, 46, 182, 0, 206, 44, 42, 21, 5, 4, 96, 46, 42, 21, 5, 5, 96, 46, 42]
abbrev dktL_law_4 : List UInt8 := dkwL_law_4 ++ dktL_law_5
def dkwL_law_3 : List UInt8 := [43, 42, 21, 5, 4, 96, 46, 42, 21, 5, 5, 96, 46, 42, 21, 5, 6, 96, 46, 42, 21, 5, 7, 96]
abbrev dktL_law_3 : List UInt8 := dkwL_law_3 ++ dktL_law_4
def dkwL_law_2 : List UInt8 := [170, 0, 0, 0, 0, 16, 45, 0, 0, 0, 0, 0, 0, 0, 63, 0, 0, 1, 15, 0, 0, 1, 88, 0, 0, 1, 144, 0, 0, 1, 157, 0, 0, 1, 170, 0, 0, 1, 183, 0, 0, 1, 239, 0, 0, 2, 75, 0, 0, 2, 186, 0, 0, 3, 34, 0, 0, 3, 78, 0, 0, 3, 146, 0, 0, 3, 202, 0, 0, 4, 38, 0, 0, 4, 106, 0, 0, 4, 174, 0, 0, 4, 254, 0, 0, 5, 90, 0, 0, 5, 170, 0, 0, 5, 238, 0, 0, 6, 50, 0, 0, 6, 118, 0, 0, 6, 174, 0, 0, 6, 230, 0, 0, 7, 30, 0, 0, 7, 86, 0, 0, 7, 142, 0, 0, 7, 186, 0, 0, 7, 242, 0, 0, 8, 30, 0, 0, 8, 98, 0, 0, 8, 154, 0, 0, 8, 210, 0, 0, 9, 10, 0, 0, 9, 78, 0, 0, 9, 146, 0, 0, 9, 238, 0, 0, 10, 57, 0, 0, 10, 113, 0, 0, 10, 169, 0, 0, 10, 225, 0, 0, 11, 49, 0, 0, 11, 117, 0, 0, 11, 183, 0, 0, 11, 248, 0, 0, 12, 48, 0, 0, 12, 104, 0, 0, 12, 160, 0, 0, 12, 204, 0, 0, 13, 4, 0, 0, 13, 72, 0, 0, 13, 140, 0, 0, 13, 196, 0, 0, 13, 252, 0, 0, 14, 76, 0, 0, 14, 120, 0, 0, 14, 176, 0, 0, 14, 220, 0, 0, 15, 20, 0, 0, 15, 76, 0, 0, 15, 132, 0, 0, 15, 176, 0, 0, 15, 189, 0, 0, 15, 245]
abbrev dktL_law_2 : List UInt8 := dkwL_law_2 ++ dktL_law_3
def dkwL_law_1 : List UInt8 := [58, 4, 3, 54, 5, 21, 5, 42, 190, 16, 6, 100, 163, 16, 61, 42, 21, 5, 46, 16, 63, 126]
abbrev dktL_law_1 : List UInt8 := dkwL_law_1 ++ dktL_law_2
def dkwL_law_0 : List UInt8 := [187, 0, 8, 89, 183, 0, 202, 76, 187, 0, 203, 89, 183, 0, 205, 77, 4, 188, 11, 78, 4, 188, 7]
abbrev dktL_law_0 : List UInt8 := dkwL_law_0 ++ dktL_law_1
theorem dksL_law_0 : cL_law.data.toList.drop 0 = dktL_law_0 := by decide +kernel
theorem dksL_law_1 : cL_law.data.toList.drop 23 = dktL_law_1 := dk_seg dksL_law_0 23 rfl rfl
theorem dksL_law_2 : cL_law.data.toList.drop 45 = dktL_law_2 := dk_seg dksL_law_1 22 rfl rfl
theorem dksL_law_3 : cL_law.data.toList.drop 316 = dktL_law_3 := dk_seg dksL_law_2 271 rfl rfl
theorem dksL_law_4 : cL_law.data.toList.drop 340 = dktL_law_4 := dk_seg dksL_law_3 24 rfl rfl
theorem dksL_law_5 : cL_law.data.toList.drop 364 = dktL_law_5 := dk_seg dksL_law_4 24 rfl rfl
theorem dksL_law_6 : cL_law.data.toList.drop 388 = dktL_law_6 := dk_seg dksL_law_5 24 rfl rfl
theorem dksL_law_7 : cL_law.data.toList.drop 412 = dktL_law_7 := dk_seg dksL_law_6 24 rfl rfl
theorem dksL_law_8 : cL_law.data.toList.drop 436 = dktL_law_8 := dk_seg dksL_law_7 24 rfl rfl
theorem dksL_law_9 : cL_law.data.toList.drop 459 = dktL_law_9 := dk_seg dksL_law_8 23 rfl rfl
theorem dksL_law_10 : cL_law.data.toList.drop 483 = dktL_law_10 := dk_seg dksL_law_9 24 rfl rfl
theorem dksL_law_11 : cL_law.data.toList.drop 507 = dktL_law_11 := dk_seg dksL_law_10 24 rfl rfl
theorem dksL_law_12 : cL_law.data.toList.drop 531 = dktL_law_12 := dk_seg dksL_law_11 24 rfl rfl
theorem dksL_law_13 : cL_law.data.toList.drop 554 = dktL_law_13 := dk_seg dksL_law_12 23 rfl rfl
theorem dksL_law_14 : cL_law.data.toList.drop 578 = dktL_law_14 := dk_seg dksL_law_13 24 rfl rfl
theorem dksL_law_15 : cL_law.data.toList.drop 602 = dktL_law_15 := dk_seg dksL_law_14 24 rfl rfl
theorem dksL_law_16 : cL_law.data.toList.drop 624 = dktL_law_16 := dk_seg dksL_law_15 22 rfl rfl
theorem dksL_law_17 : cL_law.data.toList.drop 648 = dktL_law_17 := dk_seg dksL_law_16 24 rfl rfl
theorem dksL_law_18 : cL_law.data.toList.drop 671 = dktL_law_18 := dk_seg dksL_law_17 23 rfl rfl
theorem dksL_law_19 : cL_law.data.toList.drop 695 = dktL_law_19 := dk_seg dksL_law_18 24 rfl rfl
theorem dksL_law_20 : cL_law.data.toList.drop 718 = dktL_law_20 := dk_seg dksL_law_19 23 rfl rfl
theorem dksL_law_21 : cL_law.data.toList.drop 740 = dktL_law_21 := dk_seg dksL_law_20 22 rfl rfl
theorem dksL_law_22 : cL_law.data.toList.drop 763 = dktL_law_22 := dk_seg dksL_law_21 23 rfl rfl
theorem dksL_law_23 : cL_law.data.toList.drop 787 = dktL_law_23 := dk_seg dksL_law_22 24 rfl rfl
theorem dksL_law_24 : cL_law.data.toList.drop 811 = dktL_law_24 := dk_seg dksL_law_23 24 rfl rfl
theorem dksL_law_25 : cL_law.data.toList.drop 835 = dktL_law_25 := dk_seg dksL_law_24 24 rfl rfl
theorem dksL_law_26 : cL_law.data.toList.drop 858 = dktL_law_26 := dk_seg dksL_law_25 23 rfl rfl
theorem dksL_law_27 : cL_law.data.toList.drop 882 = dktL_law_27 := dk_seg dksL_law_26 24 rfl rfl
theorem dksL_law_28 : cL_law.data.toList.drop 905 = dktL_law_28 := dk_seg dksL_law_27 23 rfl rfl
theorem dksL_law_29 : cL_law.data.toList.drop 929 = dktL_law_29 := dk_seg dksL_law_28 24 rfl rfl
theorem dksL_law_30 : cL_law.data.toList.drop 951 = dktL_law_30 := dk_seg dksL_law_29 22 rfl rfl
theorem dksL_law_31 : cL_law.data.toList.drop 974 = dktL_law_31 := dk_seg dksL_law_30 23 rfl rfl
theorem dksL_law_32 : cL_law.data.toList.drop 997 = dktL_law_32 := dk_seg dksL_law_31 23 rfl rfl
theorem dksL_law_33 : cL_law.data.toList.drop 1021 = dktL_law_33 := dk_seg dksL_law_32 24 rfl rfl
theorem dksL_law_34 : cL_law.data.toList.drop 1044 = dktL_law_34 := dk_seg dksL_law_33 23 rfl rfl
theorem dksL_law_35 : cL_law.data.toList.drop 1068 = dktL_law_35 := dk_seg dksL_law_34 24 rfl rfl
theorem dksL_law_36 : cL_law.data.toList.drop 1092 = dktL_law_36 := dk_seg dksL_law_35 24 rfl rfl
theorem dksL_law_37 : cL_law.data.toList.drop 1115 = dktL_law_37 := dk_seg dksL_law_36 23 rfl rfl
theorem dksL_law_38 : cL_law.data.toList.drop 1139 = dktL_law_38 := dk_seg dksL_law_37 24 rfl rfl
theorem dksL_law_39 : cL_law.data.toList.drop 1163 = dktL_law_39 := dk_seg dksL_law_38 24 rfl rfl
theorem dksL_law_40 : cL_law.data.toList.drop 1187 = dktL_law_40 := dk_seg dksL_law_39 24 rfl rfl
theorem dksL_law_41 : cL_law.data.toList.drop 1210 = dktL_law_41 := dk_seg dksL_law_40 23 rfl rfl
theorem dksL_law_42 : cL_law.data.toList.drop 1234 = dktL_law_42 := dk_seg dksL_law_41 24 rfl rfl
theorem dksL_law_43 : cL_law.data.toList.drop 1257 = dktL_law_43 := dk_seg dksL_law_42 23 rfl rfl
theorem dksL_law_44 : cL_law.data.toList.drop 1281 = dktL_law_44 := dk_seg dksL_law_43 24 rfl rfl
theorem dksL_law_45 : cL_law.data.toList.drop 1305 = dktL_law_45 := dk_seg dksL_law_44 24 rfl rfl
theorem dksL_law_46 : cL_law.data.toList.drop 1329 = dktL_law_46 := dk_seg dksL_law_45 24 rfl rfl
theorem dksL_law_47 : cL_law.data.toList.drop 1352 = dktL_law_47 := dk_seg dksL_law_46 23 rfl rfl
theorem dksL_law_48 : cL_law.data.toList.drop 1376 = dktL_law_48 := dk_seg dksL_law_47 24 rfl rfl
theorem dksL_law_49 : cL_law.data.toList.drop 1400 = dktL_law_49 := dk_seg dksL_law_48 24 rfl rfl
theorem dksL_law_50 : cL_law.data.toList.drop 1423 = dktL_law_50 := dk_seg dksL_law_49 23 rfl rfl
theorem dksL_law_51 : cL_law.data.toList.drop 1447 = dktL_law_51 := dk_seg dksL_law_50 24 rfl rfl
theorem dksL_law_52 : cL_law.data.toList.drop 1470 = dktL_law_52 := dk_seg dksL_law_51 23 rfl rfl
theorem dksL_law_53 : cL_law.data.toList.drop 1492 = dktL_law_53 := dk_seg dksL_law_52 22 rfl rfl
theorem dksL_law_54 : cL_law.data.toList.drop 1516 = dktL_law_54 := dk_seg dksL_law_53 24 rfl rfl
theorem dksL_law_55 : cL_law.data.toList.drop 1538 = dktL_law_55 := dk_seg dksL_law_54 22 rfl rfl
theorem dksL_law_56 : cL_law.data.toList.drop 1560 = dktL_law_56 := dk_seg dksL_law_55 22 rfl rfl
theorem dksL_law_57 : cL_law.data.toList.drop 1584 = dktL_law_57 := dk_seg dksL_law_56 24 rfl rfl
theorem dksL_law_58 : cL_law.data.toList.drop 1606 = dktL_law_58 := dk_seg dksL_law_57 22 rfl rfl
theorem dksL_law_59 : cL_law.data.toList.drop 1628 = dktL_law_59 := dk_seg dksL_law_58 22 rfl rfl
theorem dksL_law_60 : cL_law.data.toList.drop 1652 = dktL_law_60 := dk_seg dksL_law_59 24 rfl rfl
theorem dksL_law_61 : cL_law.data.toList.drop 1674 = dktL_law_61 := dk_seg dksL_law_60 22 rfl rfl
theorem dksL_law_62 : cL_law.data.toList.drop 1696 = dktL_law_62 := dk_seg dksL_law_61 22 rfl rfl
theorem dksL_law_63 : cL_law.data.toList.drop 1719 = dktL_law_63 := dk_seg dksL_law_62 23 rfl rfl
theorem dksL_law_64 : cL_law.data.toList.drop 1743 = dktL_law_64 := dk_seg dksL_law_63 24 rfl rfl
theorem dksL_law_65 : cL_law.data.toList.drop 1766 = dktL_law_65 := dk_seg dksL_law_64 23 rfl rfl
theorem dksL_law_66 : cL_law.data.toList.drop 1790 = dktL_law_66 := dk_seg dksL_law_65 24 rfl rfl
theorem dksL_law_67 : cL_law.data.toList.drop 1813 = dktL_law_67 := dk_seg dksL_law_66 23 rfl rfl
theorem dksL_law_68 : cL_law.data.toList.drop 1837 = dktL_law_68 := dk_seg dksL_law_67 24 rfl rfl
theorem dksL_law_69 : cL_law.data.toList.drop 1859 = dktL_law_69 := dk_seg dksL_law_68 22 rfl rfl
theorem dksL_law_70 : cL_law.data.toList.drop 1882 = dktL_law_70 := dk_seg dksL_law_69 23 rfl rfl
theorem dksL_law_71 : cL_law.data.toList.drop 1905 = dktL_law_71 := dk_seg dksL_law_70 23 rfl rfl
theorem dksL_law_72 : cL_law.data.toList.drop 1929 = dktL_law_72 := dk_seg dksL_law_71 24 rfl rfl
theorem dksL_law_73 : cL_law.data.toList.drop 1952 = dktL_law_73 := dk_seg dksL_law_72 23 rfl rfl
theorem dksL_law_74 : cL_law.data.toList.drop 1976 = dktL_law_74 := dk_seg dksL_law_73 24 rfl rfl
theorem dksL_law_75 : cL_law.data.toList.drop 1998 = dktL_law_75 := dk_seg dksL_law_74 22 rfl rfl
theorem dksL_law_76 : cL_law.data.toList.drop 2020 = dktL_law_76 := dk_seg dksL_law_75 22 rfl rfl
theorem dksL_law_77 : cL_law.data.toList.drop 2043 = dktL_law_77 := dk_seg dksL_law_76 23 rfl rfl
theorem dksL_law_78 : cL_law.data.toList.drop 2067 = dktL_law_78 := dk_seg dksL_law_77 24 rfl rfl
theorem dksL_law_79 : cL_law.data.toList.drop 2090 = dktL_law_79 := dk_seg dksL_law_78 23 rfl rfl
theorem dksL_law_80 : cL_law.data.toList.drop 2114 = dktL_law_80 := dk_seg dksL_law_79 24 rfl rfl
theorem dksL_law_81 : cL_law.data.toList.drop 2137 = dktL_law_81 := dk_seg dksL_law_80 23 rfl rfl
theorem dksL_law_82 : cL_law.data.toList.drop 2161 = dktL_law_82 := dk_seg dksL_law_81 24 rfl rfl
theorem dksL_law_83 : cL_law.data.toList.drop 2183 = dktL_law_83 := dk_seg dksL_law_82 22 rfl rfl
theorem dksL_law_84 : cL_law.data.toList.drop 2206 = dktL_law_84 := dk_seg dksL_law_83 23 rfl rfl
theorem dksL_law_85 : cL_law.data.toList.drop 2229 = dktL_law_85 := dk_seg dksL_law_84 23 rfl rfl
theorem dksL_law_86 : cL_law.data.toList.drop 2253 = dktL_law_86 := dk_seg dksL_law_85 24 rfl rfl
theorem dksL_law_87 : cL_law.data.toList.drop 2276 = dktL_law_87 := dk_seg dksL_law_86 23 rfl rfl
theorem dksL_law_88 : cL_law.data.toList.drop 2300 = dktL_law_88 := dk_seg dksL_law_87 24 rfl rfl
theorem dksL_law_89 : cL_law.data.toList.drop 2323 = dktL_law_89 := dk_seg dksL_law_88 23 rfl rfl
theorem dksL_law_90 : cL_law.data.toList.drop 2347 = dktL_law_90 := dk_seg dksL_law_89 24 rfl rfl
theorem dksL_law_91 : cL_law.data.toList.drop 2371 = dktL_law_91 := dk_seg dksL_law_90 24 rfl rfl
theorem dksL_law_92 : cL_law.data.toList.drop 2394 = dktL_law_92 := dk_seg dksL_law_91 23 rfl rfl
theorem dksL_law_93 : cL_law.data.toList.drop 2418 = dktL_law_93 := dk_seg dksL_law_92 24 rfl rfl
theorem dksL_law_94 : cL_law.data.toList.drop 2441 = dktL_law_94 := dk_seg dksL_law_93 23 rfl rfl
theorem dksL_law_95 : cL_law.data.toList.drop 2465 = dktL_law_95 := dk_seg dksL_law_94 24 rfl rfl
theorem dksL_law_96 : cL_law.data.toList.drop 2487 = dktL_law_96 := dk_seg dksL_law_95 22 rfl rfl
theorem dksL_law_97 : cL_law.data.toList.drop 2511 = dktL_law_97 := dk_seg dksL_law_96 24 rfl rfl
theorem dksL_law_98 : cL_law.data.toList.drop 2534 = dktL_law_98 := dk_seg dksL_law_97 23 rfl rfl
theorem dksL_law_99 : cL_law.data.toList.drop 2557 = dktL_law_99 := dk_seg dksL_law_98 23 rfl rfl
theorem dksL_law_100 : cL_law.data.toList.drop 2579 = dktL_law_100 := dk_seg dksL_law_99 22 rfl rfl
theorem dksL_law_101 : cL_law.data.toList.drop 2601 = dktL_law_101 := dk_seg dksL_law_100 22 rfl rfl
theorem dksL_law_102 : cL_law.data.toList.drop 2625 = dktL_law_102 := dk_seg dksL_law_101 24 rfl rfl
theorem dksL_law_103 : cL_law.data.toList.drop 2649 = dktL_law_103 := dk_seg dksL_law_102 24 rfl rfl
theorem dksL_law_104 : cL_law.data.toList.drop 2673 = dktL_law_104 := dk_seg dksL_law_103 24 rfl rfl
theorem dksL_law_105 : cL_law.data.toList.drop 2697 = dktL_law_105 := dk_seg dksL_law_104 24 rfl rfl
theorem dksL_law_106 : cL_law.data.toList.drop 2720 = dktL_law_106 := dk_seg dksL_law_105 23 rfl rfl
theorem dksL_law_107 : cL_law.data.toList.drop 2744 = dktL_law_107 := dk_seg dksL_law_106 24 rfl rfl
theorem dksL_law_108 : cL_law.data.toList.drop 2766 = dktL_law_108 := dk_seg dksL_law_107 22 rfl rfl
theorem dksL_law_109 : cL_law.data.toList.drop 2789 = dktL_law_109 := dk_seg dksL_law_108 23 rfl rfl
theorem dksL_law_110 : cL_law.data.toList.drop 2812 = dktL_law_110 := dk_seg dksL_law_109 23 rfl rfl
theorem dksL_law_111 : cL_law.data.toList.drop 2836 = dktL_law_111 := dk_seg dksL_law_110 24 rfl rfl
theorem dksL_law_112 : cL_law.data.toList.drop 2860 = dktL_law_112 := dk_seg dksL_law_111 24 rfl rfl
theorem dksL_law_113 : cL_law.data.toList.drop 2883 = dktL_law_113 := dk_seg dksL_law_112 23 rfl rfl
theorem dksL_law_114 : cL_law.data.toList.drop 2907 = dktL_law_114 := dk_seg dksL_law_113 24 rfl rfl
theorem dksL_law_115 : cL_law.data.toList.drop 2931 = dktL_law_115 := dk_seg dksL_law_114 24 rfl rfl
theorem dksL_law_116 : cL_law.data.toList.drop 2953 = dktL_law_116 := dk_seg dksL_law_115 22 rfl rfl
theorem dksL_law_117 : cL_law.data.toList.drop 2975 = dktL_law_117 := dk_seg dksL_law_116 22 rfl rfl
theorem dksL_law_118 : cL_law.data.toList.drop 2998 = dktL_law_118 := dk_seg dksL_law_117 23 rfl rfl
theorem dksL_law_119 : cL_law.data.toList.drop 3022 = dktL_law_119 := dk_seg dksL_law_118 24 rfl rfl
theorem dksL_law_120 : cL_law.data.toList.drop 3045 = dktL_law_120 := dk_seg dksL_law_119 23 rfl rfl
theorem dksL_law_121 : cL_law.data.toList.drop 3069 = dktL_law_121 := dk_seg dksL_law_120 24 rfl rfl
theorem dksL_law_122 : cL_law.data.toList.drop 3093 = dktL_law_122 := dk_seg dksL_law_121 24 rfl rfl
theorem dksL_law_123 : cL_law.data.toList.drop 3117 = dktL_law_123 := dk_seg dksL_law_122 24 rfl rfl
theorem dksL_law_124 : cL_law.data.toList.drop 3140 = dktL_law_124 := dk_seg dksL_law_123 23 rfl rfl
theorem dksL_law_125 : cL_law.data.toList.drop 3162 = dktL_law_125 := dk_seg dksL_law_124 22 rfl rfl
theorem dksL_law_126 : cL_law.data.toList.drop 3185 = dktL_law_126 := dk_seg dksL_law_125 23 rfl rfl
theorem dksL_law_127 : cL_law.data.toList.drop 3209 = dktL_law_127 := dk_seg dksL_law_126 24 rfl rfl
theorem dksL_law_128 : cL_law.data.toList.drop 3232 = dktL_law_128 := dk_seg dksL_law_127 23 rfl rfl
theorem dksL_law_129 : cL_law.data.toList.drop 3256 = dktL_law_129 := dk_seg dksL_law_128 24 rfl rfl
theorem dksL_law_130 : cL_law.data.toList.drop 3279 = dktL_law_130 := dk_seg dksL_law_129 23 rfl rfl
theorem dksL_law_131 : cL_law.data.toList.drop 3303 = dktL_law_131 := dk_seg dksL_law_130 24 rfl rfl
theorem dksL_law_132 : cL_law.data.toList.drop 3327 = dktL_law_132 := dk_seg dksL_law_131 24 rfl rfl
theorem dksL_law_133 : cL_law.data.toList.drop 3350 = dktL_law_133 := dk_seg dksL_law_132 23 rfl rfl
theorem dksL_law_134 : cL_law.data.toList.drop 3374 = dktL_law_134 := dk_seg dksL_law_133 24 rfl rfl
theorem dksL_law_135 : cL_law.data.toList.drop 3398 = dktL_law_135 := dk_seg dksL_law_134 24 rfl rfl
theorem dksL_law_136 : cL_law.data.toList.drop 3420 = dktL_law_136 := dk_seg dksL_law_135 22 rfl rfl
theorem dksL_law_137 : cL_law.data.toList.drop 3442 = dktL_law_137 := dk_seg dksL_law_136 22 rfl rfl
theorem dksL_law_138 : cL_law.data.toList.drop 3466 = dktL_law_138 := dk_seg dksL_law_137 24 rfl rfl
theorem dksL_law_139 : cL_law.data.toList.drop 3488 = dktL_law_139 := dk_seg dksL_law_138 22 rfl rfl
theorem dksL_law_140 : cL_law.data.toList.drop 3510 = dktL_law_140 := dk_seg dksL_law_139 22 rfl rfl
theorem dksL_law_141 : cL_law.data.toList.drop 3533 = dktL_law_141 := dk_seg dksL_law_140 23 rfl rfl
theorem dksL_law_142 : cL_law.data.toList.drop 3557 = dktL_law_142 := dk_seg dksL_law_141 24 rfl rfl
theorem dksL_law_143 : cL_law.data.toList.drop 3580 = dktL_law_143 := dk_seg dksL_law_142 23 rfl rfl
theorem dksL_law_144 : cL_law.data.toList.drop 3604 = dktL_law_144 := dk_seg dksL_law_143 24 rfl rfl
theorem dksL_law_145 : cL_law.data.toList.drop 3627 = dktL_law_145 := dk_seg dksL_law_144 23 rfl rfl
theorem dksL_law_146 : cL_law.data.toList.drop 3651 = dktL_law_146 := dk_seg dksL_law_145 24 rfl rfl
theorem dksL_law_147 : cL_law.data.toList.drop 3675 = dktL_law_147 := dk_seg dksL_law_146 24 rfl rfl
theorem dksL_law_148 : cL_law.data.toList.drop 3697 = dktL_law_148 := dk_seg dksL_law_147 22 rfl rfl
theorem dksL_law_149 : cL_law.data.toList.drop 3719 = dktL_law_149 := dk_seg dksL_law_148 22 rfl rfl
theorem dksL_law_150 : cL_law.data.toList.drop 3741 = dktL_law_150 := dk_seg dksL_law_149 22 rfl rfl
theorem dksL_law_151 : cL_law.data.toList.drop 3764 = dktL_law_151 := dk_seg dksL_law_150 23 rfl rfl
theorem dksL_law_152 : cL_law.data.toList.drop 3787 = dktL_law_152 := dk_seg dksL_law_151 23 rfl rfl
theorem dksL_law_153 : cL_law.data.toList.drop 3810 = dktL_law_153 := dk_seg dksL_law_152 23 rfl rfl
theorem dksL_law_154 : cL_law.data.toList.drop 3834 = dktL_law_154 := dk_seg dksL_law_153 24 rfl rfl
theorem dksL_law_155 : cL_law.data.toList.drop 3857 = dktL_law_155 := dk_seg dksL_law_154 23 rfl rfl
theorem dksL_law_156 : cL_law.data.toList.drop 3880 = dktL_law_156 := dk_seg dksL_law_155 23 rfl rfl
theorem dksL_law_157 : cL_law.data.toList.drop 3902 = dktL_law_157 := dk_seg dksL_law_156 22 rfl rfl
theorem dksL_law_158 : cL_law.data.toList.drop 3925 = dktL_law_158 := dk_seg dksL_law_157 23 rfl rfl
theorem dksL_law_159 : cL_law.data.toList.drop 3949 = dktL_law_159 := dk_seg dksL_law_158 24 rfl rfl
theorem dksL_law_160 : cL_law.data.toList.drop 3972 = dktL_law_160 := dk_seg dksL_law_159 23 rfl rfl
theorem dksL_law_161 : cL_law.data.toList.drop 3996 = dktL_law_161 := dk_seg dksL_law_160 24 rfl rfl
theorem dksL_law_162 : cL_law.data.toList.drop 4019 = dktL_law_162 := dk_seg dksL_law_161 23 rfl rfl
theorem dksL_law_163 : cL_law.data.toList.drop 4043 = dktL_law_163 := dk_seg dksL_law_162 24 rfl rfl
theorem dksL_law_164 : cL_law.data.toList.drop 4066 = dktL_law_164 := dk_seg dksL_law_163 23 rfl rfl
theorem dksL_law_165 : cL_law.data.toList.drop 4089 = dktL_law_165 := dk_seg dksL_law_164 23 rfl rfl
theorem dksL_law_166 : cL_law.data.toList.drop 4112 = dktL_law_166 := dk_seg dksL_law_165 23 rfl rfl
theorem dksL_law_167 : cL_law.data.toList.drop 4136 = dktL_law_167 := dk_seg dksL_law_166 24 rfl rfl
theorem dksL_law_168 : cL_law.data.toList.drop 4159 = dktL_law_168 := dk_seg dksL_law_167 23 rfl rfl
theorem dksL_law_169 : cL_law.data.toList.drop 4183 = dktL_law_169 := dk_seg dksL_law_168 24 rfl rfl
theorem dL_law_0 : decode cL_law 0 = .ok (.new 8, 3) := dk_187 0 8 (dk_at dksL_law_0 0 rfl rfl)
theorem dL_law_3 : decode cL_law 3 = .ok (.dup, 1) := dk_89 (dk_at dksL_law_0 3 rfl rfl)
theorem dL_law_4 : decode cL_law 4 = .ok (.invokespecial 202, 3) := dk_183 0 202 (dk_at dksL_law_0 4 rfl rfl)
theorem dL_law_7 : decode cL_law 7 = .ok (.astore_n 1, 1) := dk_76 (dk_at dksL_law_0 7 rfl rfl)
theorem dL_law_8 : decode cL_law 8 = .ok (.new 203, 3) := dk_187 0 203 (dk_at dksL_law_0 8 rfl rfl)
theorem dL_law_11 : decode cL_law 11 = .ok (.dup, 1) := dk_89 (dk_at dksL_law_0 11 rfl rfl)
theorem dL_law_12 : decode cL_law 12 = .ok (.invokespecial 205, 3) := dk_183 0 205 (dk_at dksL_law_0 12 rfl rfl)
theorem dL_law_15 : decode cL_law 15 = .ok (.astore_n 2, 1) := dk_77 (dk_at dksL_law_0 15 rfl rfl)
theorem dL_law_16 : decode cL_law 16 = .ok (.iconst 1, 1) := dk_4 (dk_at dksL_law_0 16 rfl rfl)
theorem dL_law_17 : decode cL_law 17 = .ok (.newarray .long, 2) := dk_188_11 (dk_at dksL_law_0 17 rfl rfl)
theorem dL_law_19 : decode cL_law 19 = .ok (.astore_n 3, 1) := dk_78 (dk_at dksL_law_0 19 rfl rfl)
theorem dL_law_20 : decode cL_law 20 = .ok (.iconst 1, 1) := dk_4 (dk_at dksL_law_0 20 rfl rfl)
theorem dL_law_21 : decode cL_law 21 = .ok (.newarray .double, 2) := dk_188_7 (dk_at dksL_law_0 21 rfl rfl)
theorem dL_law_23 : decode cL_law 23 = .ok (.astore 4, 2) := dk_58 4 (dk_at dksL_law_1 0 rfl rfl)
theorem dL_law_25 : decode cL_law 25 = .ok (.iconst 0, 1) := dk_3 (dk_at dksL_law_1 2 rfl rfl)
theorem dL_law_26 : decode cL_law 26 = .ok (.istore 5, 2) := dk_54 5 (dk_at dksL_law_1 3 rfl rfl)
theorem dL_law_28 : decode cL_law 28 = .ok (.iload 5, 2) := dk_21 5 (dk_at dksL_law_1 5 rfl rfl)
theorem dL_law_30 : decode cL_law 30 = .ok (.aload_n 0, 1) := dk_42 (dk_at dksL_law_1 7 rfl rfl)
theorem dL_law_31 : decode cL_law 31 = .ok (.arraylength, 1) := dk_190 (dk_at dksL_law_1 8 rfl rfl)
theorem dL_law_32 : decode cL_law 32 = .ok (.bipush 6, 2) := dk_16 6 (dk_at dksL_law_1 9 rfl rfl)
theorem dL_law_34 : decode cL_law 34 = .ok (.isub, 1) := dk_100 (dk_at dksL_law_1 11 rfl rfl)
theorem dL_law_35 : decode cL_law 35 = .ok (.if_icmp .gt 4157, 3) := dk_163 16 61 (dk_at dksL_law_1 12 rfl rfl)
theorem dL_law_38 : decode cL_law 38 = .ok (.aload_n 0, 1) := dk_42 (dk_at dksL_law_1 15 rfl rfl)
theorem dL_law_39 : decode cL_law 39 = .ok (.iload 5, 2) := dk_21 5 (dk_at dksL_law_1 16 rfl rfl)
theorem dL_law_41 : decode cL_law 41 = .ok (.iaload, 1) := dk_46 (dk_at dksL_law_1 18 rfl rfl)
theorem dL_law_42 : decode cL_law 42 = .ok (.bipush 63, 2) := dk_16 63 (dk_at dksL_law_1 19 rfl rfl)
theorem dL_law_44 : decode cL_law 44 = .ok (.iand, 1) := dk_126 (dk_at dksL_law_1 21 rfl rfl)
theorem dL_law_45 : decode cL_law 45 = .ok (.tableswitch 4141 0 63 #[271, 344, 400, 413, 426, 439, 495, 587, 698, 802, 846, 914, 970, 1062, 1130, 1198, 1278, 1370, 1450, 1518, 1586, 1654, 1710, 1766, 1822, 1878, 1934, 1978, 2034, 2078, 2146, 2202, 2258, 2314, 2382, 2450, 2542, 2617, 2673, 2729, 2785, 2865, 2933, 2999, 3064, 3120, 3176, 3232, 3276, 3332, 3400, 3468, 3524, 3580, 3660, 3704, 3760, 3804, 3860, 3916, 3972, 4016, 4029, 4085], 271) := by decide +kernel
theorem dL_law_316 : decode cL_law 316 = .ok (.aload_n 1, 1) := dk_43 (dk_at dksL_law_3 0 rfl rfl)
theorem dL_law_317 : decode cL_law 317 = .ok (.aload_n 0, 1) := dk_42 (dk_at dksL_law_3 1 rfl rfl)
theorem dL_law_318 : decode cL_law 318 = .ok (.iload 5, 2) := dk_21 5 (dk_at dksL_law_3 2 rfl rfl)
theorem dL_law_320 : decode cL_law 320 = .ok (.iconst 1, 1) := dk_4 (dk_at dksL_law_3 4 rfl rfl)
theorem dL_law_321 : decode cL_law 321 = .ok (.iadd, 1) := dk_96 (dk_at dksL_law_3 5 rfl rfl)
theorem dL_law_322 : decode cL_law 322 = .ok (.iaload, 1) := dk_46 (dk_at dksL_law_3 6 rfl rfl)
theorem dL_law_323 : decode cL_law 323 = .ok (.aload_n 0, 1) := dk_42 (dk_at dksL_law_3 7 rfl rfl)
theorem dL_law_324 : decode cL_law 324 = .ok (.iload 5, 2) := dk_21 5 (dk_at dksL_law_3 8 rfl rfl)
theorem dL_law_326 : decode cL_law 326 = .ok (.iconst 2, 1) := dk_5 (dk_at dksL_law_3 10 rfl rfl)
theorem dL_law_327 : decode cL_law 327 = .ok (.iadd, 1) := dk_96 (dk_at dksL_law_3 11 rfl rfl)
theorem dL_law_328 : decode cL_law 328 = .ok (.iaload, 1) := dk_46 (dk_at dksL_law_3 12 rfl rfl)
theorem dL_law_329 : decode cL_law 329 = .ok (.aload_n 0, 1) := dk_42 (dk_at dksL_law_3 13 rfl rfl)
theorem dL_law_330 : decode cL_law 330 = .ok (.iload 5, 2) := dk_21 5 (dk_at dksL_law_3 14 rfl rfl)
theorem dL_law_332 : decode cL_law 332 = .ok (.iconst 3, 1) := dk_6 (dk_at dksL_law_3 16 rfl rfl)
theorem dL_law_333 : decode cL_law 333 = .ok (.iadd, 1) := dk_96 (dk_at dksL_law_3 17 rfl rfl)
theorem dL_law_334 : decode cL_law 334 = .ok (.iaload, 1) := dk_46 (dk_at dksL_law_3 18 rfl rfl)
theorem dL_law_335 : decode cL_law 335 = .ok (.aload_n 0, 1) := dk_42 (dk_at dksL_law_3 19 rfl rfl)
theorem dL_law_336 : decode cL_law 336 = .ok (.iload 5, 2) := dk_21 5 (dk_at dksL_law_3 20 rfl rfl)
theorem dL_law_338 : decode cL_law 338 = .ok (.iconst 4, 1) := dk_7 (dk_at dksL_law_3 22 rfl rfl)
theorem dL_law_339 : decode cL_law 339 = .ok (.iadd, 1) := dk_96 (dk_at dksL_law_3 23 rfl rfl)
theorem dL_law_340 : decode cL_law 340 = .ok (.iaload, 1) := dk_46 (dk_at dksL_law_4 0 rfl rfl)
theorem dL_law_341 : decode cL_law 341 = .ok (.aload_n 0, 1) := dk_42 (dk_at dksL_law_4 1 rfl rfl)
theorem dL_law_342 : decode cL_law 342 = .ok (.iload 5, 2) := dk_21 5 (dk_at dksL_law_4 2 rfl rfl)
theorem dL_law_344 : decode cL_law 344 = .ok (.iconst 5, 1) := dk_8 (dk_at dksL_law_4 4 rfl rfl)
theorem dL_law_345 : decode cL_law 345 = .ok (.iadd, 1) := dk_96 (dk_at dksL_law_4 5 rfl rfl)
theorem dL_law_346 : decode cL_law 346 = .ok (.iaload, 1) := dk_46 (dk_at dksL_law_4 6 rfl rfl)
theorem dL_law_347 : decode cL_law 347 = .ok (.invokevirtual 206, 3) := dk_182 0 206 (dk_at dksL_law_4 7 rfl rfl)
theorem dL_law_350 : decode cL_law 350 = .ok (.aload_n 2, 1) := dk_44 (dk_at dksL_law_4 10 rfl rfl)
theorem dL_law_351 : decode cL_law 351 = .ok (.aload_n 0, 1) := dk_42 (dk_at dksL_law_4 11 rfl rfl)
theorem dL_law_352 : decode cL_law 352 = .ok (.iload 5, 2) := dk_21 5 (dk_at dksL_law_4 12 rfl rfl)
theorem dL_law_354 : decode cL_law 354 = .ok (.iconst 1, 1) := dk_4 (dk_at dksL_law_4 14 rfl rfl)
theorem dL_law_355 : decode cL_law 355 = .ok (.iadd, 1) := dk_96 (dk_at dksL_law_4 15 rfl rfl)
theorem dL_law_356 : decode cL_law 356 = .ok (.iaload, 1) := dk_46 (dk_at dksL_law_4 16 rfl rfl)
theorem dL_law_357 : decode cL_law 357 = .ok (.aload_n 0, 1) := dk_42 (dk_at dksL_law_4 17 rfl rfl)
theorem dL_law_358 : decode cL_law 358 = .ok (.iload 5, 2) := dk_21 5 (dk_at dksL_law_4 18 rfl rfl)
theorem dL_law_360 : decode cL_law 360 = .ok (.iconst 2, 1) := dk_5 (dk_at dksL_law_4 20 rfl rfl)
theorem dL_law_361 : decode cL_law 361 = .ok (.iadd, 1) := dk_96 (dk_at dksL_law_4 21 rfl rfl)
theorem dL_law_362 : decode cL_law 362 = .ok (.iaload, 1) := dk_46 (dk_at dksL_law_4 22 rfl rfl)
theorem dL_law_363 : decode cL_law 363 = .ok (.aload_n 0, 1) := dk_42 (dk_at dksL_law_4 23 rfl rfl)
theorem dL_law_364 : decode cL_law 364 = .ok (.iload 5, 2) := dk_21 5 (dk_at dksL_law_5 0 rfl rfl)
theorem dL_law_366 : decode cL_law 366 = .ok (.iconst 3, 1) := dk_6 (dk_at dksL_law_5 2 rfl rfl)
theorem dL_law_367 : decode cL_law 367 = .ok (.iadd, 1) := dk_96 (dk_at dksL_law_5 3 rfl rfl)
theorem dL_law_368 : decode cL_law 368 = .ok (.iaload, 1) := dk_46 (dk_at dksL_law_5 4 rfl rfl)
theorem dL_law_369 : decode cL_law 369 = .ok (.aload_n 0, 1) := dk_42 (dk_at dksL_law_5 5 rfl rfl)
theorem dL_law_370 : decode cL_law 370 = .ok (.iload 5, 2) := dk_21 5 (dk_at dksL_law_5 6 rfl rfl)
theorem dL_law_372 : decode cL_law 372 = .ok (.iconst 4, 1) := dk_7 (dk_at dksL_law_5 8 rfl rfl)
theorem dL_law_373 : decode cL_law 373 = .ok (.iadd, 1) := dk_96 (dk_at dksL_law_5 9 rfl rfl)
theorem dL_law_374 : decode cL_law 374 = .ok (.iaload, 1) := dk_46 (dk_at dksL_law_5 10 rfl rfl)
theorem dL_law_375 : decode cL_law 375 = .ok (.aload_n 0, 1) := dk_42 (dk_at dksL_law_5 11 rfl rfl)
theorem dL_law_376 : decode cL_law 376 = .ok (.iload 5, 2) := dk_21 5 (dk_at dksL_law_5 12 rfl rfl)
theorem dL_law_378 : decode cL_law 378 = .ok (.iconst 5, 1) := dk_8 (dk_at dksL_law_5 14 rfl rfl)
theorem dL_law_379 : decode cL_law 379 = .ok (.iadd, 1) := dk_96 (dk_at dksL_law_5 15 rfl rfl)
theorem dL_law_380 : decode cL_law 380 = .ok (.iaload, 1) := dk_46 (dk_at dksL_law_5 16 rfl rfl)
theorem dL_law_381 : decode cL_law 381 = .ok (.invokevirtual 209, 3) := dk_182 0 209 (dk_at dksL_law_5 17 rfl rfl)
theorem dL_law_384 : decode cL_law 384 = .ok (.if_icmp .eq 3802, 3) := dk_159 14 218 (dk_at dksL_law_5 20 rfl rfl)
theorem dL_law_387 : decode cL_law 387 = .ok (.iconst 0, 1) := dk_3 (dk_at dksL_law_5 23 rfl rfl)
theorem dL_law_388 : decode cL_law 388 = .ok (.ireturn, 1) := dk_172 (dk_at dksL_law_6 0 rfl rfl)
theorem dL_law_389 : decode cL_law 389 = .ok (.aload_n 1, 1) := dk_43 (dk_at dksL_law_6 1 rfl rfl)
theorem dL_law_390 : decode cL_law 390 = .ok (.aload_n 0, 1) := dk_42 (dk_at dksL_law_6 2 rfl rfl)
theorem dL_law_391 : decode cL_law 391 = .ok (.iload 5, 2) := dk_21 5 (dk_at dksL_law_6 3 rfl rfl)
theorem dL_law_393 : decode cL_law 393 = .ok (.iconst 1, 1) := dk_4 (dk_at dksL_law_6 5 rfl rfl)
theorem dL_law_394 : decode cL_law 394 = .ok (.iadd, 1) := dk_96 (dk_at dksL_law_6 6 rfl rfl)
theorem dL_law_395 : decode cL_law 395 = .ok (.iaload, 1) := dk_46 (dk_at dksL_law_6 7 rfl rfl)
theorem dL_law_396 : decode cL_law 396 = .ok (.aload_n 3, 1) := dk_45 (dk_at dksL_law_6 8 rfl rfl)
theorem dL_law_397 : decode cL_law 397 = .ok (.invokestatic 210, 3) := dk_184 0 210 (dk_at dksL_law_6 9 rfl rfl)
theorem dL_law_400 : decode cL_law 400 = .ok (.istore 6, 2) := dk_54 6 (dk_at dksL_law_6 12 rfl rfl)
theorem dL_law_402 : decode cL_law 402 = .ok (.aload_n 2, 1) := dk_44 (dk_at dksL_law_6 14 rfl rfl)
theorem dL_law_403 : decode cL_law 403 = .ok (.aload_n 0, 1) := dk_42 (dk_at dksL_law_6 15 rfl rfl)
theorem dL_law_404 : decode cL_law 404 = .ok (.iload 5, 2) := dk_21 5 (dk_at dksL_law_6 16 rfl rfl)
theorem dL_law_406 : decode cL_law 406 = .ok (.iconst 1, 1) := dk_4 (dk_at dksL_law_6 18 rfl rfl)
theorem dL_law_407 : decode cL_law 407 = .ok (.iadd, 1) := dk_96 (dk_at dksL_law_6 19 rfl rfl)
theorem dL_law_408 : decode cL_law 408 = .ok (.iaload, 1) := dk_46 (dk_at dksL_law_6 20 rfl rfl)
theorem dL_law_409 : decode cL_law 409 = .ok (.invokevirtual 215, 3) := dk_182 0 215 (dk_at dksL_law_6 21 rfl rfl)
theorem dL_law_412 : decode cL_law 412 = .ok (.istore 7, 2) := dk_54 7 (dk_at dksL_law_7 0 rfl rfl)
theorem dL_law_414 : decode cL_law 414 = .ok (.aload_n 2, 1) := dk_44 (dk_at dksL_law_7 2 rfl rfl)
theorem dL_law_415 : decode cL_law 415 = .ok (.invokevirtual 216, 3) := dk_182 0 216 (dk_at dksL_law_7 3 rfl rfl)
theorem dL_law_418 : decode cL_law 418 = .ok (.iload 6, 2) := dk_21 6 (dk_at dksL_law_7 6 rfl rfl)
theorem dL_law_420 : decode cL_law 420 = .ok (.if_icmp .eq 5, 3) := dk_159 0 5 (dk_at dksL_law_7 8 rfl rfl)
theorem dL_law_423 : decode cL_law 423 = .ok (.iconst 0, 1) := dk_3 (dk_at dksL_law_7 11 rfl rfl)
theorem dL_law_424 : decode cL_law 424 = .ok (.ireturn, 1) := dk_172 (dk_at dksL_law_7 12 rfl rfl)
theorem dL_law_425 : decode cL_law 425 = .ok (.iload 6, 2) := dk_21 6 (dk_at dksL_law_7 13 rfl rfl)
theorem dL_law_427 : decode cL_law 427 = .ok (.ifCond .ne 15, 3) := dk_154 0 15 (dk_at dksL_law_7 15 rfl rfl)
theorem dL_law_430 : decode cL_law 430 = .ok (.aload_n 3, 1) := dk_45 (dk_at dksL_law_7 18 rfl rfl)
theorem dL_law_431 : decode cL_law 431 = .ok (.iconst 0, 1) := dk_3 (dk_at dksL_law_7 19 rfl rfl)
theorem dL_law_432 : decode cL_law 432 = .ok (.laload, 1) := dk_47 (dk_at dksL_law_7 20 rfl rfl)
theorem dL_law_433 : decode cL_law 433 = .ok (.iload 7, 2) := dk_21 7 (dk_at dksL_law_7 21 rfl rfl)
theorem dL_law_435 : decode cL_law 435 = .ok (.i2l, 1) := dk_133 (dk_at dksL_law_7 23 rfl rfl)
theorem dL_law_436 : decode cL_law 436 = .ok (.lcmp, 1) := dk_148 (dk_at dksL_law_8 0 rfl rfl)
theorem dL_law_437 : decode cL_law 437 = .ok (.ifCond .eq 5, 3) := dk_153 0 5 (dk_at dksL_law_8 1 rfl rfl)
theorem dL_law_440 : decode cL_law 440 = .ok (.iconst 0, 1) := dk_3 (dk_at dksL_law_8 4 rfl rfl)
theorem dL_law_441 : decode cL_law 441 = .ok (.ireturn, 1) := dk_172 (dk_at dksL_law_8 5 rfl rfl)
theorem dL_law_442 : decode cL_law 442 = .ok (.goto 3744, 3) := dk_167 14 160 (dk_at dksL_law_8 6 rfl rfl)
theorem dL_law_445 : decode cL_law 445 = .ok (.aload_n 1, 1) := dk_43 (dk_at dksL_law_8 9 rfl rfl)
theorem dL_law_446 : decode cL_law 446 = .ok (.invokevirtual 219, 3) := dk_182 0 219 (dk_at dksL_law_8 10 rfl rfl)
theorem dL_law_449 : decode cL_law 449 = .ok (.aload_n 2, 1) := dk_44 (dk_at dksL_law_8 13 rfl rfl)
theorem dL_law_450 : decode cL_law 450 = .ok (.invokevirtual 222, 3) := dk_182 0 222 (dk_at dksL_law_8 14 rfl rfl)
theorem dL_law_453 : decode cL_law 453 = .ok (.if_icmp .eq 3733, 3) := dk_159 14 149 (dk_at dksL_law_8 17 rfl rfl)
theorem dL_law_456 : decode cL_law 456 = .ok (.iconst 0, 1) := dk_3 (dk_at dksL_law_8 20 rfl rfl)
theorem dL_law_457 : decode cL_law 457 = .ok (.ireturn, 1) := dk_172 (dk_at dksL_law_8 21 rfl rfl)
theorem dL_law_458 : decode cL_law 458 = .ok (.aload_n 1, 1) := dk_43 (dk_at dksL_law_8 22 rfl rfl)
theorem dL_law_459 : decode cL_law 459 = .ok (.invokevirtual 223, 3) := dk_182 0 223 (dk_at dksL_law_9 0 rfl rfl)
theorem dL_law_462 : decode cL_law 462 = .ok (.aload_n 2, 1) := dk_44 (dk_at dksL_law_9 3 rfl rfl)
theorem dL_law_463 : decode cL_law 463 = .ok (.invokevirtual 226, 3) := dk_182 0 226 (dk_at dksL_law_9 4 rfl rfl)
theorem dL_law_466 : decode cL_law 466 = .ok (.if_icmp .eq 3720, 3) := dk_159 14 136 (dk_at dksL_law_9 7 rfl rfl)
theorem dL_law_469 : decode cL_law 469 = .ok (.iconst 0, 1) := dk_3 (dk_at dksL_law_9 10 rfl rfl)
theorem dL_law_470 : decode cL_law 470 = .ok (.ireturn, 1) := dk_172 (dk_at dksL_law_9 11 rfl rfl)
theorem dL_law_471 : decode cL_law 471 = .ok (.aload_n 1, 1) := dk_43 (dk_at dksL_law_9 12 rfl rfl)
theorem dL_law_472 : decode cL_law 472 = .ok (.invokevirtual 227, 3) := dk_182 0 227 (dk_at dksL_law_9 13 rfl rfl)
theorem dL_law_475 : decode cL_law 475 = .ok (.aload_n 2, 1) := dk_44 (dk_at dksL_law_9 16 rfl rfl)
theorem dL_law_476 : decode cL_law 476 = .ok (.invokevirtual 230, 3) := dk_182 0 230 (dk_at dksL_law_9 17 rfl rfl)
theorem dL_law_479 : decode cL_law 479 = .ok (.if_icmp .eq 3707, 3) := dk_159 14 123 (dk_at dksL_law_9 20 rfl rfl)
theorem dL_law_482 : decode cL_law 482 = .ok (.iconst 0, 1) := dk_3 (dk_at dksL_law_9 23 rfl rfl)
theorem dL_law_483 : decode cL_law 483 = .ok (.ireturn, 1) := dk_172 (dk_at dksL_law_10 0 rfl rfl)
theorem dL_law_484 : decode cL_law 484 = .ok (.aload_n 1, 1) := dk_43 (dk_at dksL_law_10 1 rfl rfl)
theorem dL_law_485 : decode cL_law 485 = .ok (.aload_n 0, 1) := dk_42 (dk_at dksL_law_10 2 rfl rfl)
theorem dL_law_486 : decode cL_law 486 = .ok (.iload 5, 2) := dk_21 5 (dk_at dksL_law_10 3 rfl rfl)
theorem dL_law_488 : decode cL_law 488 = .ok (.iconst 1, 1) := dk_4 (dk_at dksL_law_10 5 rfl rfl)
theorem dL_law_489 : decode cL_law 489 = .ok (.iadd, 1) := dk_96 (dk_at dksL_law_10 6 rfl rfl)
theorem dL_law_490 : decode cL_law 490 = .ok (.iaload, 1) := dk_46 (dk_at dksL_law_10 7 rfl rfl)
theorem dL_law_491 : decode cL_law 491 = .ok (.aload_n 3, 1) := dk_45 (dk_at dksL_law_10 8 rfl rfl)
theorem dL_law_492 : decode cL_law 492 = .ok (.invokestatic 231, 3) := dk_184 0 231 (dk_at dksL_law_10 9 rfl rfl)
theorem dL_law_495 : decode cL_law 495 = .ok (.istore 6, 2) := dk_54 6 (dk_at dksL_law_10 12 rfl rfl)
theorem dL_law_497 : decode cL_law 497 = .ok (.aload_n 2, 1) := dk_44 (dk_at dksL_law_10 14 rfl rfl)
theorem dL_law_498 : decode cL_law 498 = .ok (.aload_n 0, 1) := dk_42 (dk_at dksL_law_10 15 rfl rfl)
theorem dL_law_499 : decode cL_law 499 = .ok (.iload 5, 2) := dk_21 5 (dk_at dksL_law_10 16 rfl rfl)
theorem dL_law_501 : decode cL_law 501 = .ok (.iconst 1, 1) := dk_4 (dk_at dksL_law_10 18 rfl rfl)
theorem dL_law_502 : decode cL_law 502 = .ok (.iadd, 1) := dk_96 (dk_at dksL_law_10 19 rfl rfl)
theorem dL_law_503 : decode cL_law 503 = .ok (.iaload, 1) := dk_46 (dk_at dksL_law_10 20 rfl rfl)
theorem dL_law_504 : decode cL_law 504 = .ok (.invokevirtual 233, 3) := dk_182 0 233 (dk_at dksL_law_10 21 rfl rfl)
theorem dL_law_507 : decode cL_law 507 = .ok (.istore 7, 2) := dk_54 7 (dk_at dksL_law_11 0 rfl rfl)
theorem dL_law_509 : decode cL_law 509 = .ok (.aload_n 2, 1) := dk_44 (dk_at dksL_law_11 2 rfl rfl)
theorem dL_law_510 : decode cL_law 510 = .ok (.invokevirtual 216, 3) := dk_182 0 216 (dk_at dksL_law_11 3 rfl rfl)
theorem dL_law_513 : decode cL_law 513 = .ok (.iload 6, 2) := dk_21 6 (dk_at dksL_law_11 6 rfl rfl)
theorem dL_law_515 : decode cL_law 515 = .ok (.if_icmp .eq 5, 3) := dk_159 0 5 (dk_at dksL_law_11 8 rfl rfl)
theorem dL_law_518 : decode cL_law 518 = .ok (.iconst 0, 1) := dk_3 (dk_at dksL_law_11 11 rfl rfl)
theorem dL_law_519 : decode cL_law 519 = .ok (.ireturn, 1) := dk_172 (dk_at dksL_law_11 12 rfl rfl)
theorem dL_law_520 : decode cL_law 520 = .ok (.iload 6, 2) := dk_21 6 (dk_at dksL_law_11 13 rfl rfl)
theorem dL_law_522 : decode cL_law 522 = .ok (.ifCond .ne 15, 3) := dk_154 0 15 (dk_at dksL_law_11 15 rfl rfl)
theorem dL_law_525 : decode cL_law 525 = .ok (.aload_n 3, 1) := dk_45 (dk_at dksL_law_11 18 rfl rfl)
theorem dL_law_526 : decode cL_law 526 = .ok (.iconst 0, 1) := dk_3 (dk_at dksL_law_11 19 rfl rfl)
theorem dL_law_527 : decode cL_law 527 = .ok (.laload, 1) := dk_47 (dk_at dksL_law_11 20 rfl rfl)
theorem dL_law_528 : decode cL_law 528 = .ok (.iload 7, 2) := dk_21 7 (dk_at dksL_law_11 21 rfl rfl)
theorem dL_law_530 : decode cL_law 530 = .ok (.i2l, 1) := dk_133 (dk_at dksL_law_11 23 rfl rfl)
theorem dL_law_531 : decode cL_law 531 = .ok (.lcmp, 1) := dk_148 (dk_at dksL_law_12 0 rfl rfl)
theorem dL_law_532 : decode cL_law 532 = .ok (.ifCond .eq 5, 3) := dk_153 0 5 (dk_at dksL_law_12 1 rfl rfl)
theorem dL_law_535 : decode cL_law 535 = .ok (.iconst 0, 1) := dk_3 (dk_at dksL_law_12 4 rfl rfl)
theorem dL_law_536 : decode cL_law 536 = .ok (.ireturn, 1) := dk_172 (dk_at dksL_law_12 5 rfl rfl)
theorem dL_law_537 : decode cL_law 537 = .ok (.goto 3649, 3) := dk_167 14 65 (dk_at dksL_law_12 6 rfl rfl)
theorem dL_law_540 : decode cL_law 540 = .ok (.aload_n 1, 1) := dk_43 (dk_at dksL_law_12 9 rfl rfl)
theorem dL_law_541 : decode cL_law 541 = .ok (.aload_n 0, 1) := dk_42 (dk_at dksL_law_12 10 rfl rfl)
theorem dL_law_542 : decode cL_law 542 = .ok (.iload 5, 2) := dk_21 5 (dk_at dksL_law_12 11 rfl rfl)
theorem dL_law_544 : decode cL_law 544 = .ok (.iconst 1, 1) := dk_4 (dk_at dksL_law_12 13 rfl rfl)
theorem dL_law_545 : decode cL_law 545 = .ok (.iadd, 1) := dk_96 (dk_at dksL_law_12 14 rfl rfl)
theorem dL_law_546 : decode cL_law 546 = .ok (.iaload, 1) := dk_46 (dk_at dksL_law_12 15 rfl rfl)
theorem dL_law_547 : decode cL_law 547 = .ok (.aload_n 0, 1) := dk_42 (dk_at dksL_law_12 16 rfl rfl)
theorem dL_law_548 : decode cL_law 548 = .ok (.iload 5, 2) := dk_21 5 (dk_at dksL_law_12 17 rfl rfl)
theorem dL_law_550 : decode cL_law 550 = .ok (.iconst 2, 1) := dk_5 (dk_at dksL_law_12 19 rfl rfl)
theorem dL_law_551 : decode cL_law 551 = .ok (.iadd, 1) := dk_96 (dk_at dksL_law_12 20 rfl rfl)
theorem dL_law_552 : decode cL_law 552 = .ok (.iaload, 1) := dk_46 (dk_at dksL_law_12 21 rfl rfl)
theorem dL_law_553 : decode cL_law 553 = .ok (.aload_n 0, 1) := dk_42 (dk_at dksL_law_12 22 rfl rfl)
theorem dL_law_554 : decode cL_law 554 = .ok (.iload 5, 2) := dk_21 5 (dk_at dksL_law_13 0 rfl rfl)
theorem dL_law_556 : decode cL_law 556 = .ok (.iconst 3, 1) := dk_6 (dk_at dksL_law_13 2 rfl rfl)
theorem dL_law_557 : decode cL_law 557 = .ok (.iadd, 1) := dk_96 (dk_at dksL_law_13 3 rfl rfl)
theorem dL_law_558 : decode cL_law 558 = .ok (.iaload, 1) := dk_46 (dk_at dksL_law_13 4 rfl rfl)
theorem dL_law_559 : decode cL_law 559 = .ok (.aload_n 0, 1) := dk_42 (dk_at dksL_law_13 5 rfl rfl)
theorem dL_law_560 : decode cL_law 560 = .ok (.iload 5, 2) := dk_21 5 (dk_at dksL_law_13 6 rfl rfl)
theorem dL_law_562 : decode cL_law 562 = .ok (.iconst 4, 1) := dk_7 (dk_at dksL_law_13 8 rfl rfl)
theorem dL_law_563 : decode cL_law 563 = .ok (.iadd, 1) := dk_96 (dk_at dksL_law_13 9 rfl rfl)
theorem dL_law_564 : decode cL_law 564 = .ok (.iaload, 1) := dk_46 (dk_at dksL_law_13 10 rfl rfl)
theorem dL_law_565 : decode cL_law 565 = .ok (.aload_n 3, 1) := dk_45 (dk_at dksL_law_13 11 rfl rfl)
theorem dL_law_566 : decode cL_law 566 = .ok (.invokestatic 234, 3) := dk_184 0 234 (dk_at dksL_law_13 12 rfl rfl)
theorem dL_law_569 : decode cL_law 569 = .ok (.istore 6, 2) := dk_54 6 (dk_at dksL_law_13 15 rfl rfl)
theorem dL_law_571 : decode cL_law 571 = .ok (.aload_n 2, 1) := dk_44 (dk_at dksL_law_13 17 rfl rfl)
theorem dL_law_572 : decode cL_law 572 = .ok (.aload_n 0, 1) := dk_42 (dk_at dksL_law_13 18 rfl rfl)
theorem dL_law_573 : decode cL_law 573 = .ok (.iload 5, 2) := dk_21 5 (dk_at dksL_law_13 19 rfl rfl)
theorem dL_law_575 : decode cL_law 575 = .ok (.iconst 1, 1) := dk_4 (dk_at dksL_law_13 21 rfl rfl)
theorem dL_law_576 : decode cL_law 576 = .ok (.iadd, 1) := dk_96 (dk_at dksL_law_13 22 rfl rfl)
theorem dL_law_577 : decode cL_law 577 = .ok (.iaload, 1) := dk_46 (dk_at dksL_law_13 23 rfl rfl)
theorem dL_law_578 : decode cL_law 578 = .ok (.aload_n 0, 1) := dk_42 (dk_at dksL_law_14 0 rfl rfl)
theorem dL_law_579 : decode cL_law 579 = .ok (.iload 5, 2) := dk_21 5 (dk_at dksL_law_14 1 rfl rfl)
theorem dL_law_581 : decode cL_law 581 = .ok (.iconst 2, 1) := dk_5 (dk_at dksL_law_14 3 rfl rfl)
theorem dL_law_582 : decode cL_law 582 = .ok (.iadd, 1) := dk_96 (dk_at dksL_law_14 4 rfl rfl)
theorem dL_law_583 : decode cL_law 583 = .ok (.iaload, 1) := dk_46 (dk_at dksL_law_14 5 rfl rfl)
theorem dL_law_584 : decode cL_law 584 = .ok (.aload_n 0, 1) := dk_42 (dk_at dksL_law_14 6 rfl rfl)
theorem dL_law_585 : decode cL_law 585 = .ok (.iload 5, 2) := dk_21 5 (dk_at dksL_law_14 7 rfl rfl)
theorem dL_law_587 : decode cL_law 587 = .ok (.iconst 3, 1) := dk_6 (dk_at dksL_law_14 9 rfl rfl)
theorem dL_law_588 : decode cL_law 588 = .ok (.iadd, 1) := dk_96 (dk_at dksL_law_14 10 rfl rfl)
theorem dL_law_589 : decode cL_law 589 = .ok (.iaload, 1) := dk_46 (dk_at dksL_law_14 11 rfl rfl)
theorem dL_law_590 : decode cL_law 590 = .ok (.aload_n 0, 1) := dk_42 (dk_at dksL_law_14 12 rfl rfl)
theorem dL_law_591 : decode cL_law 591 = .ok (.iload 5, 2) := dk_21 5 (dk_at dksL_law_14 13 rfl rfl)
theorem dL_law_593 : decode cL_law 593 = .ok (.iconst 4, 1) := dk_7 (dk_at dksL_law_14 15 rfl rfl)
theorem dL_law_594 : decode cL_law 594 = .ok (.iadd, 1) := dk_96 (dk_at dksL_law_14 16 rfl rfl)
theorem dL_law_595 : decode cL_law 595 = .ok (.iaload, 1) := dk_46 (dk_at dksL_law_14 17 rfl rfl)
theorem dL_law_596 : decode cL_law 596 = .ok (.invokevirtual 237, 3) := dk_182 0 237 (dk_at dksL_law_14 18 rfl rfl)
theorem dL_law_599 : decode cL_law 599 = .ok (.istore 7, 2) := dk_54 7 (dk_at dksL_law_14 21 rfl rfl)
theorem dL_law_601 : decode cL_law 601 = .ok (.aload_n 2, 1) := dk_44 (dk_at dksL_law_14 23 rfl rfl)
theorem dL_law_602 : decode cL_law 602 = .ok (.invokevirtual 216, 3) := dk_182 0 216 (dk_at dksL_law_15 0 rfl rfl)
theorem dL_law_605 : decode cL_law 605 = .ok (.iload 6, 2) := dk_21 6 (dk_at dksL_law_15 3 rfl rfl)
theorem dL_law_607 : decode cL_law 607 = .ok (.if_icmp .eq 5, 3) := dk_159 0 5 (dk_at dksL_law_15 5 rfl rfl)
theorem dL_law_610 : decode cL_law 610 = .ok (.iconst 0, 1) := dk_3 (dk_at dksL_law_15 8 rfl rfl)
theorem dL_law_611 : decode cL_law 611 = .ok (.ireturn, 1) := dk_172 (dk_at dksL_law_15 9 rfl rfl)
theorem dL_law_612 : decode cL_law 612 = .ok (.iload 6, 2) := dk_21 6 (dk_at dksL_law_15 10 rfl rfl)
theorem dL_law_614 : decode cL_law 614 = .ok (.ifCond .ne 15, 3) := dk_154 0 15 (dk_at dksL_law_15 12 rfl rfl)
theorem dL_law_617 : decode cL_law 617 = .ok (.aload_n 3, 1) := dk_45 (dk_at dksL_law_15 15 rfl rfl)
theorem dL_law_618 : decode cL_law 618 = .ok (.iconst 0, 1) := dk_3 (dk_at dksL_law_15 16 rfl rfl)
theorem dL_law_619 : decode cL_law 619 = .ok (.laload, 1) := dk_47 (dk_at dksL_law_15 17 rfl rfl)
theorem dL_law_620 : decode cL_law 620 = .ok (.iload 7, 2) := dk_21 7 (dk_at dksL_law_15 18 rfl rfl)
theorem dL_law_622 : decode cL_law 622 = .ok (.i2l, 1) := dk_133 (dk_at dksL_law_15 20 rfl rfl)
theorem dL_law_623 : decode cL_law 623 = .ok (.lcmp, 1) := dk_148 (dk_at dksL_law_15 21 rfl rfl)
theorem dL_law_624 : decode cL_law 624 = .ok (.ifCond .eq 5, 3) := dk_153 0 5 (dk_at dksL_law_16 0 rfl rfl)
theorem dL_law_627 : decode cL_law 627 = .ok (.iconst 0, 1) := dk_3 (dk_at dksL_law_16 3 rfl rfl)
theorem dL_law_628 : decode cL_law 628 = .ok (.ireturn, 1) := dk_172 (dk_at dksL_law_16 4 rfl rfl)
theorem dL_law_629 : decode cL_law 629 = .ok (.goto 3557, 3) := dk_167 13 229 (dk_at dksL_law_16 5 rfl rfl)
theorem dL_law_632 : decode cL_law 632 = .ok (.aload_n 1, 1) := dk_43 (dk_at dksL_law_16 8 rfl rfl)
theorem dL_law_633 : decode cL_law 633 = .ok (.aload_n 0, 1) := dk_42 (dk_at dksL_law_16 9 rfl rfl)
theorem dL_law_634 : decode cL_law 634 = .ok (.iload 5, 2) := dk_21 5 (dk_at dksL_law_16 10 rfl rfl)
theorem dL_law_636 : decode cL_law 636 = .ok (.iconst 1, 1) := dk_4 (dk_at dksL_law_16 12 rfl rfl)
theorem dL_law_637 : decode cL_law 637 = .ok (.iadd, 1) := dk_96 (dk_at dksL_law_16 13 rfl rfl)
theorem dL_law_638 : decode cL_law 638 = .ok (.iaload, 1) := dk_46 (dk_at dksL_law_16 14 rfl rfl)
theorem dL_law_639 : decode cL_law 639 = .ok (.aload_n 0, 1) := dk_42 (dk_at dksL_law_16 15 rfl rfl)
theorem dL_law_640 : decode cL_law 640 = .ok (.iload 5, 2) := dk_21 5 (dk_at dksL_law_16 16 rfl rfl)
theorem dL_law_642 : decode cL_law 642 = .ok (.iconst 2, 1) := dk_5 (dk_at dksL_law_16 18 rfl rfl)
theorem dL_law_643 : decode cL_law 643 = .ok (.iadd, 1) := dk_96 (dk_at dksL_law_16 19 rfl rfl)
theorem dL_law_644 : decode cL_law 644 = .ok (.iaload, 1) := dk_46 (dk_at dksL_law_16 20 rfl rfl)
theorem dL_law_645 : decode cL_law 645 = .ok (.aload_n 0, 1) := dk_42 (dk_at dksL_law_16 21 rfl rfl)
theorem dL_law_646 : decode cL_law 646 = .ok (.iload 5, 2) := dk_21 5 (dk_at dksL_law_16 22 rfl rfl)
theorem dL_law_648 : decode cL_law 648 = .ok (.iconst 3, 1) := dk_6 (dk_at dksL_law_17 0 rfl rfl)
theorem dL_law_649 : decode cL_law 649 = .ok (.iadd, 1) := dk_96 (dk_at dksL_law_17 1 rfl rfl)
theorem dL_law_650 : decode cL_law 650 = .ok (.iaload, 1) := dk_46 (dk_at dksL_law_17 2 rfl rfl)
theorem dL_law_651 : decode cL_law 651 = .ok (.aload_n 0, 1) := dk_42 (dk_at dksL_law_17 3 rfl rfl)
theorem dL_law_652 : decode cL_law 652 = .ok (.iload 5, 2) := dk_21 5 (dk_at dksL_law_17 4 rfl rfl)
theorem dL_law_654 : decode cL_law 654 = .ok (.iconst 4, 1) := dk_7 (dk_at dksL_law_17 6 rfl rfl)
theorem dL_law_655 : decode cL_law 655 = .ok (.iadd, 1) := dk_96 (dk_at dksL_law_17 7 rfl rfl)
theorem dL_law_656 : decode cL_law 656 = .ok (.iaload, 1) := dk_46 (dk_at dksL_law_17 8 rfl rfl)
theorem dL_law_657 : decode cL_law 657 = .ok (.aload_n 0, 1) := dk_42 (dk_at dksL_law_17 9 rfl rfl)
theorem dL_law_658 : decode cL_law 658 = .ok (.iload 5, 2) := dk_21 5 (dk_at dksL_law_17 10 rfl rfl)
theorem dL_law_660 : decode cL_law 660 = .ok (.iconst 5, 1) := dk_8 (dk_at dksL_law_17 12 rfl rfl)
theorem dL_law_661 : decode cL_law 661 = .ok (.iadd, 1) := dk_96 (dk_at dksL_law_17 13 rfl rfl)
theorem dL_law_662 : decode cL_law 662 = .ok (.iaload, 1) := dk_46 (dk_at dksL_law_17 14 rfl rfl)
theorem dL_law_663 : decode cL_law 663 = .ok (.aload_n 3, 1) := dk_45 (dk_at dksL_law_17 15 rfl rfl)
theorem dL_law_664 : decode cL_law 664 = .ok (.invokestatic 238, 3) := dk_184 0 238 (dk_at dksL_law_17 16 rfl rfl)
theorem dL_law_667 : decode cL_law 667 = .ok (.istore 6, 2) := dk_54 6 (dk_at dksL_law_17 19 rfl rfl)
theorem dL_law_669 : decode cL_law 669 = .ok (.aload_n 2, 1) := dk_44 (dk_at dksL_law_17 21 rfl rfl)
theorem dL_law_670 : decode cL_law 670 = .ok (.aload_n 0, 1) := dk_42 (dk_at dksL_law_17 22 rfl rfl)
theorem dL_law_671 : decode cL_law 671 = .ok (.iload 5, 2) := dk_21 5 (dk_at dksL_law_18 0 rfl rfl)
theorem dL_law_673 : decode cL_law 673 = .ok (.iconst 1, 1) := dk_4 (dk_at dksL_law_18 2 rfl rfl)
theorem dL_law_674 : decode cL_law 674 = .ok (.iadd, 1) := dk_96 (dk_at dksL_law_18 3 rfl rfl)
theorem dL_law_675 : decode cL_law 675 = .ok (.iaload, 1) := dk_46 (dk_at dksL_law_18 4 rfl rfl)
theorem dL_law_676 : decode cL_law 676 = .ok (.aload_n 0, 1) := dk_42 (dk_at dksL_law_18 5 rfl rfl)
theorem dL_law_677 : decode cL_law 677 = .ok (.iload 5, 2) := dk_21 5 (dk_at dksL_law_18 6 rfl rfl)
theorem dL_law_679 : decode cL_law 679 = .ok (.iconst 2, 1) := dk_5 (dk_at dksL_law_18 8 rfl rfl)
theorem dL_law_680 : decode cL_law 680 = .ok (.iadd, 1) := dk_96 (dk_at dksL_law_18 9 rfl rfl)
theorem dL_law_681 : decode cL_law 681 = .ok (.iaload, 1) := dk_46 (dk_at dksL_law_18 10 rfl rfl)
theorem dL_law_682 : decode cL_law 682 = .ok (.aload_n 0, 1) := dk_42 (dk_at dksL_law_18 11 rfl rfl)
theorem dL_law_683 : decode cL_law 683 = .ok (.iload 5, 2) := dk_21 5 (dk_at dksL_law_18 12 rfl rfl)
theorem dL_law_685 : decode cL_law 685 = .ok (.iconst 3, 1) := dk_6 (dk_at dksL_law_18 14 rfl rfl)
theorem dL_law_686 : decode cL_law 686 = .ok (.iadd, 1) := dk_96 (dk_at dksL_law_18 15 rfl rfl)
theorem dL_law_687 : decode cL_law 687 = .ok (.iaload, 1) := dk_46 (dk_at dksL_law_18 16 rfl rfl)
theorem dL_law_688 : decode cL_law 688 = .ok (.aload_n 0, 1) := dk_42 (dk_at dksL_law_18 17 rfl rfl)
theorem dL_law_689 : decode cL_law 689 = .ok (.iload 5, 2) := dk_21 5 (dk_at dksL_law_18 18 rfl rfl)
theorem dL_law_691 : decode cL_law 691 = .ok (.iconst 4, 1) := dk_7 (dk_at dksL_law_18 20 rfl rfl)
theorem dL_law_692 : decode cL_law 692 = .ok (.iadd, 1) := dk_96 (dk_at dksL_law_18 21 rfl rfl)
theorem dL_law_693 : decode cL_law 693 = .ok (.iaload, 1) := dk_46 (dk_at dksL_law_18 22 rfl rfl)
theorem dL_law_694 : decode cL_law 694 = .ok (.aload_n 0, 1) := dk_42 (dk_at dksL_law_18 23 rfl rfl)
theorem dL_law_695 : decode cL_law 695 = .ok (.iload 5, 2) := dk_21 5 (dk_at dksL_law_19 0 rfl rfl)
theorem dL_law_697 : decode cL_law 697 = .ok (.iconst 5, 1) := dk_8 (dk_at dksL_law_19 2 rfl rfl)
theorem dL_law_698 : decode cL_law 698 = .ok (.iadd, 1) := dk_96 (dk_at dksL_law_19 3 rfl rfl)
theorem dL_law_699 : decode cL_law 699 = .ok (.iaload, 1) := dk_46 (dk_at dksL_law_19 4 rfl rfl)
theorem dL_law_700 : decode cL_law 700 = .ok (.invokevirtual 241, 3) := dk_182 0 241 (dk_at dksL_law_19 5 rfl rfl)
theorem dL_law_703 : decode cL_law 703 = .ok (.istore 7, 2) := dk_54 7 (dk_at dksL_law_19 8 rfl rfl)
theorem dL_law_705 : decode cL_law 705 = .ok (.aload_n 2, 1) := dk_44 (dk_at dksL_law_19 10 rfl rfl)
theorem dL_law_706 : decode cL_law 706 = .ok (.invokevirtual 216, 3) := dk_182 0 216 (dk_at dksL_law_19 11 rfl rfl)
theorem dL_law_709 : decode cL_law 709 = .ok (.iload 6, 2) := dk_21 6 (dk_at dksL_law_19 14 rfl rfl)
theorem dL_law_711 : decode cL_law 711 = .ok (.if_icmp .eq 5, 3) := dk_159 0 5 (dk_at dksL_law_19 16 rfl rfl)
theorem dL_law_714 : decode cL_law 714 = .ok (.iconst 0, 1) := dk_3 (dk_at dksL_law_19 19 rfl rfl)
theorem dL_law_715 : decode cL_law 715 = .ok (.ireturn, 1) := dk_172 (dk_at dksL_law_19 20 rfl rfl)
theorem dL_law_716 : decode cL_law 716 = .ok (.iload 6, 2) := dk_21 6 (dk_at dksL_law_19 21 rfl rfl)
theorem dL_law_718 : decode cL_law 718 = .ok (.ifCond .ne 22, 3) := dk_154 0 22 (dk_at dksL_law_20 0 rfl rfl)
theorem dL_law_721 : decode cL_law 721 = .ok (.aload_n 3, 1) := dk_45 (dk_at dksL_law_20 3 rfl rfl)
theorem dL_law_722 : decode cL_law 722 = .ok (.iconst 0, 1) := dk_3 (dk_at dksL_law_20 4 rfl rfl)
theorem dL_law_723 : decode cL_law 723 = .ok (.laload, 1) := dk_47 (dk_at dksL_law_20 5 rfl rfl)
theorem dL_law_724 : decode cL_law 724 = .ok (.iload 7, 2) := dk_21 7 (dk_at dksL_law_20 6 rfl rfl)
theorem dL_law_726 : decode cL_law 726 = .ok (.ifCond .eq 7, 3) := dk_153 0 7 (dk_at dksL_law_20 8 rfl rfl)
theorem dL_law_729 : decode cL_law 729 = .ok (.lconst 1, 1) := dk_10 (dk_at dksL_law_20 11 rfl rfl)
theorem dL_law_730 : decode cL_law 730 = .ok (.goto 4, 3) := dk_167 0 4 (dk_at dksL_law_20 12 rfl rfl)
theorem dL_law_733 : decode cL_law 733 = .ok (.lconst 0, 1) := dk_9 (dk_at dksL_law_20 15 rfl rfl)
theorem dL_law_734 : decode cL_law 734 = .ok (.lcmp, 1) := dk_148 (dk_at dksL_law_20 16 rfl rfl)
theorem dL_law_735 : decode cL_law 735 = .ok (.ifCond .eq 5, 3) := dk_153 0 5 (dk_at dksL_law_20 17 rfl rfl)
theorem dL_law_738 : decode cL_law 738 = .ok (.iconst 0, 1) := dk_3 (dk_at dksL_law_20 20 rfl rfl)
theorem dL_law_739 : decode cL_law 739 = .ok (.ireturn, 1) := dk_172 (dk_at dksL_law_20 21 rfl rfl)
theorem dL_law_740 : decode cL_law 740 = .ok (.goto 3446, 3) := dk_167 13 118 (dk_at dksL_law_21 0 rfl rfl)
theorem dL_law_743 : decode cL_law 743 = .ok (.aload_n 1, 1) := dk_43 (dk_at dksL_law_21 3 rfl rfl)
theorem dL_law_744 : decode cL_law 744 = .ok (.aload_n 0, 1) := dk_42 (dk_at dksL_law_21 4 rfl rfl)
theorem dL_law_745 : decode cL_law 745 = .ok (.iload 5, 2) := dk_21 5 (dk_at dksL_law_21 5 rfl rfl)
theorem dL_law_747 : decode cL_law 747 = .ok (.iconst 1, 1) := dk_4 (dk_at dksL_law_21 7 rfl rfl)
theorem dL_law_748 : decode cL_law 748 = .ok (.iadd, 1) := dk_96 (dk_at dksL_law_21 8 rfl rfl)
theorem dL_law_749 : decode cL_law 749 = .ok (.iaload, 1) := dk_46 (dk_at dksL_law_21 9 rfl rfl)
theorem dL_law_750 : decode cL_law 750 = .ok (.aload_n 0, 1) := dk_42 (dk_at dksL_law_21 10 rfl rfl)
theorem dL_law_751 : decode cL_law 751 = .ok (.iload 5, 2) := dk_21 5 (dk_at dksL_law_21 11 rfl rfl)
theorem dL_law_753 : decode cL_law 753 = .ok (.iconst 2, 1) := dk_5 (dk_at dksL_law_21 13 rfl rfl)
theorem dL_law_754 : decode cL_law 754 = .ok (.iadd, 1) := dk_96 (dk_at dksL_law_21 14 rfl rfl)
theorem dL_law_755 : decode cL_law 755 = .ok (.iaload, 1) := dk_46 (dk_at dksL_law_21 15 rfl rfl)
theorem dL_law_756 : decode cL_law 756 = .ok (.aload_n 0, 1) := dk_42 (dk_at dksL_law_21 16 rfl rfl)
theorem dL_law_757 : decode cL_law 757 = .ok (.iload 5, 2) := dk_21 5 (dk_at dksL_law_21 17 rfl rfl)
theorem dL_law_759 : decode cL_law 759 = .ok (.iconst 3, 1) := dk_6 (dk_at dksL_law_21 19 rfl rfl)
theorem dL_law_760 : decode cL_law 760 = .ok (.iadd, 1) := dk_96 (dk_at dksL_law_21 20 rfl rfl)
theorem dL_law_761 : decode cL_law 761 = .ok (.iaload, 1) := dk_46 (dk_at dksL_law_21 21 rfl rfl)
theorem dL_law_762 : decode cL_law 762 = .ok (.aload_n 0, 1) := dk_42 (dk_at dksL_law_21 22 rfl rfl)
theorem dL_law_763 : decode cL_law 763 = .ok (.iload 5, 2) := dk_21 5 (dk_at dksL_law_22 0 rfl rfl)
theorem dL_law_765 : decode cL_law 765 = .ok (.iconst 4, 1) := dk_7 (dk_at dksL_law_22 2 rfl rfl)
theorem dL_law_766 : decode cL_law 766 = .ok (.iadd, 1) := dk_96 (dk_at dksL_law_22 3 rfl rfl)
theorem dL_law_767 : decode cL_law 767 = .ok (.iaload, 1) := dk_46 (dk_at dksL_law_22 4 rfl rfl)
theorem dL_law_768 : decode cL_law 768 = .ok (.aload_n 0, 1) := dk_42 (dk_at dksL_law_22 5 rfl rfl)
theorem dL_law_769 : decode cL_law 769 = .ok (.iload 5, 2) := dk_21 5 (dk_at dksL_law_22 6 rfl rfl)
theorem dL_law_771 : decode cL_law 771 = .ok (.iconst 5, 1) := dk_8 (dk_at dksL_law_22 8 rfl rfl)
theorem dL_law_772 : decode cL_law 772 = .ok (.iadd, 1) := dk_96 (dk_at dksL_law_22 9 rfl rfl)
theorem dL_law_773 : decode cL_law 773 = .ok (.iaload, 1) := dk_46 (dk_at dksL_law_22 10 rfl rfl)
theorem dL_law_774 : decode cL_law 774 = .ok (.aload_n 3, 1) := dk_45 (dk_at dksL_law_22 11 rfl rfl)
theorem dL_law_775 : decode cL_law 775 = .ok (.invokestatic 242, 3) := dk_184 0 242 (dk_at dksL_law_22 12 rfl rfl)
theorem dL_law_778 : decode cL_law 778 = .ok (.istore 6, 2) := dk_54 6 (dk_at dksL_law_22 15 rfl rfl)
theorem dL_law_780 : decode cL_law 780 = .ok (.aload_n 2, 1) := dk_44 (dk_at dksL_law_22 17 rfl rfl)
theorem dL_law_781 : decode cL_law 781 = .ok (.aload_n 0, 1) := dk_42 (dk_at dksL_law_22 18 rfl rfl)
theorem dL_law_782 : decode cL_law 782 = .ok (.iload 5, 2) := dk_21 5 (dk_at dksL_law_22 19 rfl rfl)
theorem dL_law_784 : decode cL_law 784 = .ok (.iconst 1, 1) := dk_4 (dk_at dksL_law_22 21 rfl rfl)
theorem dL_law_785 : decode cL_law 785 = .ok (.iadd, 1) := dk_96 (dk_at dksL_law_22 22 rfl rfl)
theorem dL_law_786 : decode cL_law 786 = .ok (.iaload, 1) := dk_46 (dk_at dksL_law_22 23 rfl rfl)
theorem dL_law_787 : decode cL_law 787 = .ok (.aload_n 0, 1) := dk_42 (dk_at dksL_law_23 0 rfl rfl)
theorem dL_law_788 : decode cL_law 788 = .ok (.iload 5, 2) := dk_21 5 (dk_at dksL_law_23 1 rfl rfl)
theorem dL_law_790 : decode cL_law 790 = .ok (.iconst 2, 1) := dk_5 (dk_at dksL_law_23 3 rfl rfl)
theorem dL_law_791 : decode cL_law 791 = .ok (.iadd, 1) := dk_96 (dk_at dksL_law_23 4 rfl rfl)
theorem dL_law_792 : decode cL_law 792 = .ok (.iaload, 1) := dk_46 (dk_at dksL_law_23 5 rfl rfl)
theorem dL_law_793 : decode cL_law 793 = .ok (.aload_n 0, 1) := dk_42 (dk_at dksL_law_23 6 rfl rfl)
theorem dL_law_794 : decode cL_law 794 = .ok (.iload 5, 2) := dk_21 5 (dk_at dksL_law_23 7 rfl rfl)
theorem dL_law_796 : decode cL_law 796 = .ok (.iconst 3, 1) := dk_6 (dk_at dksL_law_23 9 rfl rfl)
theorem dL_law_797 : decode cL_law 797 = .ok (.iadd, 1) := dk_96 (dk_at dksL_law_23 10 rfl rfl)
theorem dL_law_798 : decode cL_law 798 = .ok (.iaload, 1) := dk_46 (dk_at dksL_law_23 11 rfl rfl)
theorem dL_law_799 : decode cL_law 799 = .ok (.aload_n 0, 1) := dk_42 (dk_at dksL_law_23 12 rfl rfl)
theorem dL_law_800 : decode cL_law 800 = .ok (.iload 5, 2) := dk_21 5 (dk_at dksL_law_23 13 rfl rfl)
theorem dL_law_802 : decode cL_law 802 = .ok (.iconst 4, 1) := dk_7 (dk_at dksL_law_23 15 rfl rfl)
theorem dL_law_803 : decode cL_law 803 = .ok (.iadd, 1) := dk_96 (dk_at dksL_law_23 16 rfl rfl)
theorem dL_law_804 : decode cL_law 804 = .ok (.iaload, 1) := dk_46 (dk_at dksL_law_23 17 rfl rfl)
theorem dL_law_805 : decode cL_law 805 = .ok (.aload_n 0, 1) := dk_42 (dk_at dksL_law_23 18 rfl rfl)
theorem dL_law_806 : decode cL_law 806 = .ok (.iload 5, 2) := dk_21 5 (dk_at dksL_law_23 19 rfl rfl)
theorem dL_law_808 : decode cL_law 808 = .ok (.iconst 5, 1) := dk_8 (dk_at dksL_law_23 21 rfl rfl)
theorem dL_law_809 : decode cL_law 809 = .ok (.iadd, 1) := dk_96 (dk_at dksL_law_23 22 rfl rfl)
theorem dL_law_810 : decode cL_law 810 = .ok (.iaload, 1) := dk_46 (dk_at dksL_law_23 23 rfl rfl)
theorem dL_law_811 : decode cL_law 811 = .ok (.invokevirtual 244, 3) := dk_182 0 244 (dk_at dksL_law_24 0 rfl rfl)
theorem dL_law_814 : decode cL_law 814 = .ok (.istore 7, 2) := dk_54 7 (dk_at dksL_law_24 3 rfl rfl)
theorem dL_law_816 : decode cL_law 816 = .ok (.aload_n 2, 1) := dk_44 (dk_at dksL_law_24 5 rfl rfl)
theorem dL_law_817 : decode cL_law 817 = .ok (.invokevirtual 216, 3) := dk_182 0 216 (dk_at dksL_law_24 6 rfl rfl)
theorem dL_law_820 : decode cL_law 820 = .ok (.iload 6, 2) := dk_21 6 (dk_at dksL_law_24 9 rfl rfl)
theorem dL_law_822 : decode cL_law 822 = .ok (.if_icmp .eq 5, 3) := dk_159 0 5 (dk_at dksL_law_24 11 rfl rfl)
theorem dL_law_825 : decode cL_law 825 = .ok (.iconst 0, 1) := dk_3 (dk_at dksL_law_24 14 rfl rfl)
theorem dL_law_826 : decode cL_law 826 = .ok (.ireturn, 1) := dk_172 (dk_at dksL_law_24 15 rfl rfl)
theorem dL_law_827 : decode cL_law 827 = .ok (.iload 6, 2) := dk_21 6 (dk_at dksL_law_24 16 rfl rfl)
theorem dL_law_829 : decode cL_law 829 = .ok (.ifCond .ne 15, 3) := dk_154 0 15 (dk_at dksL_law_24 18 rfl rfl)
theorem dL_law_832 : decode cL_law 832 = .ok (.aload_n 3, 1) := dk_45 (dk_at dksL_law_24 21 rfl rfl)
theorem dL_law_833 : decode cL_law 833 = .ok (.iconst 0, 1) := dk_3 (dk_at dksL_law_24 22 rfl rfl)
theorem dL_law_834 : decode cL_law 834 = .ok (.laload, 1) := dk_47 (dk_at dksL_law_24 23 rfl rfl)
theorem dL_law_835 : decode cL_law 835 = .ok (.iload 7, 2) := dk_21 7 (dk_at dksL_law_25 0 rfl rfl)
theorem dL_law_837 : decode cL_law 837 = .ok (.i2l, 1) := dk_133 (dk_at dksL_law_25 2 rfl rfl)
theorem dL_law_838 : decode cL_law 838 = .ok (.lcmp, 1) := dk_148 (dk_at dksL_law_25 3 rfl rfl)
theorem dL_law_839 : decode cL_law 839 = .ok (.ifCond .eq 5, 3) := dk_153 0 5 (dk_at dksL_law_25 4 rfl rfl)
theorem dL_law_842 : decode cL_law 842 = .ok (.iconst 0, 1) := dk_3 (dk_at dksL_law_25 7 rfl rfl)
theorem dL_law_843 : decode cL_law 843 = .ok (.ireturn, 1) := dk_172 (dk_at dksL_law_25 8 rfl rfl)
theorem dL_law_844 : decode cL_law 844 = .ok (.goto 3342, 3) := dk_167 13 14 (dk_at dksL_law_25 9 rfl rfl)
theorem dL_law_847 : decode cL_law 847 = .ok (.aload_n 1, 1) := dk_43 (dk_at dksL_law_25 12 rfl rfl)
theorem dL_law_848 : decode cL_law 848 = .ok (.aload_n 3, 1) := dk_45 (dk_at dksL_law_25 13 rfl rfl)
theorem dL_law_849 : decode cL_law 849 = .ok (.invokestatic 245, 3) := dk_184 0 245 (dk_at dksL_law_25 14 rfl rfl)
theorem dL_law_852 : decode cL_law 852 = .ok (.istore 6, 2) := dk_54 6 (dk_at dksL_law_25 17 rfl rfl)
theorem dL_law_854 : decode cL_law 854 = .ok (.aload_n 2, 1) := dk_44 (dk_at dksL_law_25 19 rfl rfl)
theorem dL_law_855 : decode cL_law 855 = .ok (.invokevirtual 248, 3) := dk_182 0 248 (dk_at dksL_law_25 20 rfl rfl)
theorem dL_law_858 : decode cL_law 858 = .ok (.istore 7, 2) := dk_54 7 (dk_at dksL_law_26 0 rfl rfl)
theorem dL_law_860 : decode cL_law 860 = .ok (.aload_n 2, 1) := dk_44 (dk_at dksL_law_26 2 rfl rfl)
theorem dL_law_861 : decode cL_law 861 = .ok (.invokevirtual 216, 3) := dk_182 0 216 (dk_at dksL_law_26 3 rfl rfl)
theorem dL_law_864 : decode cL_law 864 = .ok (.iload 6, 2) := dk_21 6 (dk_at dksL_law_26 6 rfl rfl)
theorem dL_law_866 : decode cL_law 866 = .ok (.if_icmp .eq 5, 3) := dk_159 0 5 (dk_at dksL_law_26 8 rfl rfl)
theorem dL_law_869 : decode cL_law 869 = .ok (.iconst 0, 1) := dk_3 (dk_at dksL_law_26 11 rfl rfl)
theorem dL_law_870 : decode cL_law 870 = .ok (.ireturn, 1) := dk_172 (dk_at dksL_law_26 12 rfl rfl)
theorem dL_law_871 : decode cL_law 871 = .ok (.iload 6, 2) := dk_21 6 (dk_at dksL_law_26 13 rfl rfl)
theorem dL_law_873 : decode cL_law 873 = .ok (.ifCond .ne 15, 3) := dk_154 0 15 (dk_at dksL_law_26 15 rfl rfl)
theorem dL_law_876 : decode cL_law 876 = .ok (.aload_n 3, 1) := dk_45 (dk_at dksL_law_26 18 rfl rfl)
theorem dL_law_877 : decode cL_law 877 = .ok (.iconst 0, 1) := dk_3 (dk_at dksL_law_26 19 rfl rfl)
theorem dL_law_878 : decode cL_law 878 = .ok (.laload, 1) := dk_47 (dk_at dksL_law_26 20 rfl rfl)
theorem dL_law_879 : decode cL_law 879 = .ok (.iload 7, 2) := dk_21 7 (dk_at dksL_law_26 21 rfl rfl)
theorem dL_law_881 : decode cL_law 881 = .ok (.i2l, 1) := dk_133 (dk_at dksL_law_26 23 rfl rfl)
theorem dL_law_882 : decode cL_law 882 = .ok (.lcmp, 1) := dk_148 (dk_at dksL_law_27 0 rfl rfl)
theorem dL_law_883 : decode cL_law 883 = .ok (.ifCond .eq 5, 3) := dk_153 0 5 (dk_at dksL_law_27 1 rfl rfl)
theorem dL_law_886 : decode cL_law 886 = .ok (.iconst 0, 1) := dk_3 (dk_at dksL_law_27 4 rfl rfl)
theorem dL_law_887 : decode cL_law 887 = .ok (.ireturn, 1) := dk_172 (dk_at dksL_law_27 5 rfl rfl)
theorem dL_law_888 : decode cL_law 888 = .ok (.goto 3298, 3) := dk_167 12 226 (dk_at dksL_law_27 6 rfl rfl)
theorem dL_law_891 : decode cL_law 891 = .ok (.aload_n 1, 1) := dk_43 (dk_at dksL_law_27 9 rfl rfl)
theorem dL_law_892 : decode cL_law 892 = .ok (.aload_n 0, 1) := dk_42 (dk_at dksL_law_27 10 rfl rfl)
theorem dL_law_893 : decode cL_law 893 = .ok (.iload 5, 2) := dk_21 5 (dk_at dksL_law_27 11 rfl rfl)
theorem dL_law_895 : decode cL_law 895 = .ok (.iconst 1, 1) := dk_4 (dk_at dksL_law_27 13 rfl rfl)
theorem dL_law_896 : decode cL_law 896 = .ok (.iadd, 1) := dk_96 (dk_at dksL_law_27 14 rfl rfl)
theorem dL_law_897 : decode cL_law 897 = .ok (.iaload, 1) := dk_46 (dk_at dksL_law_27 15 rfl rfl)
theorem dL_law_898 : decode cL_law 898 = .ok (.aload_n 0, 1) := dk_42 (dk_at dksL_law_27 16 rfl rfl)
theorem dL_law_899 : decode cL_law 899 = .ok (.iload 5, 2) := dk_21 5 (dk_at dksL_law_27 17 rfl rfl)
theorem dL_law_901 : decode cL_law 901 = .ok (.iconst 2, 1) := dk_5 (dk_at dksL_law_27 19 rfl rfl)
theorem dL_law_902 : decode cL_law 902 = .ok (.iadd, 1) := dk_96 (dk_at dksL_law_27 20 rfl rfl)
theorem dL_law_903 : decode cL_law 903 = .ok (.iaload, 1) := dk_46 (dk_at dksL_law_27 21 rfl rfl)
theorem dL_law_904 : decode cL_law 904 = .ok (.aload_n 3, 1) := dk_45 (dk_at dksL_law_27 22 rfl rfl)
theorem dL_law_905 : decode cL_law 905 = .ok (.invokestatic 249, 3) := dk_184 0 249 (dk_at dksL_law_28 0 rfl rfl)
theorem dL_law_908 : decode cL_law 908 = .ok (.istore 6, 2) := dk_54 6 (dk_at dksL_law_28 3 rfl rfl)
theorem dL_law_910 : decode cL_law 910 = .ok (.aload_n 2, 1) := dk_44 (dk_at dksL_law_28 5 rfl rfl)
theorem dL_law_911 : decode cL_law 911 = .ok (.aload_n 0, 1) := dk_42 (dk_at dksL_law_28 6 rfl rfl)
theorem dL_law_912 : decode cL_law 912 = .ok (.iload 5, 2) := dk_21 5 (dk_at dksL_law_28 7 rfl rfl)
theorem dL_law_914 : decode cL_law 914 = .ok (.iconst 1, 1) := dk_4 (dk_at dksL_law_28 9 rfl rfl)
theorem dL_law_915 : decode cL_law 915 = .ok (.iadd, 1) := dk_96 (dk_at dksL_law_28 10 rfl rfl)
theorem dL_law_916 : decode cL_law 916 = .ok (.iaload, 1) := dk_46 (dk_at dksL_law_28 11 rfl rfl)
theorem dL_law_917 : decode cL_law 917 = .ok (.aload_n 0, 1) := dk_42 (dk_at dksL_law_28 12 rfl rfl)
theorem dL_law_918 : decode cL_law 918 = .ok (.iload 5, 2) := dk_21 5 (dk_at dksL_law_28 13 rfl rfl)
theorem dL_law_920 : decode cL_law 920 = .ok (.iconst 2, 1) := dk_5 (dk_at dksL_law_28 15 rfl rfl)
theorem dL_law_921 : decode cL_law 921 = .ok (.iadd, 1) := dk_96 (dk_at dksL_law_28 16 rfl rfl)
theorem dL_law_922 : decode cL_law 922 = .ok (.iaload, 1) := dk_46 (dk_at dksL_law_28 17 rfl rfl)
theorem dL_law_923 : decode cL_law 923 = .ok (.invokevirtual 252, 3) := dk_182 0 252 (dk_at dksL_law_28 18 rfl rfl)
theorem dL_law_926 : decode cL_law 926 = .ok (.istore 7, 2) := dk_54 7 (dk_at dksL_law_28 21 rfl rfl)
theorem dL_law_928 : decode cL_law 928 = .ok (.aload_n 2, 1) := dk_44 (dk_at dksL_law_28 23 rfl rfl)
theorem dL_law_929 : decode cL_law 929 = .ok (.invokevirtual 216, 3) := dk_182 0 216 (dk_at dksL_law_29 0 rfl rfl)
theorem dL_law_932 : decode cL_law 932 = .ok (.iload 6, 2) := dk_21 6 (dk_at dksL_law_29 3 rfl rfl)
theorem dL_law_934 : decode cL_law 934 = .ok (.if_icmp .eq 5, 3) := dk_159 0 5 (dk_at dksL_law_29 5 rfl rfl)
theorem dL_law_937 : decode cL_law 937 = .ok (.iconst 0, 1) := dk_3 (dk_at dksL_law_29 8 rfl rfl)
theorem dL_law_938 : decode cL_law 938 = .ok (.ireturn, 1) := dk_172 (dk_at dksL_law_29 9 rfl rfl)
theorem dL_law_939 : decode cL_law 939 = .ok (.iload 6, 2) := dk_21 6 (dk_at dksL_law_29 10 rfl rfl)
theorem dL_law_941 : decode cL_law 941 = .ok (.ifCond .ne 15, 3) := dk_154 0 15 (dk_at dksL_law_29 12 rfl rfl)
theorem dL_law_944 : decode cL_law 944 = .ok (.aload_n 3, 1) := dk_45 (dk_at dksL_law_29 15 rfl rfl)
theorem dL_law_945 : decode cL_law 945 = .ok (.iconst 0, 1) := dk_3 (dk_at dksL_law_29 16 rfl rfl)
theorem dL_law_946 : decode cL_law 946 = .ok (.laload, 1) := dk_47 (dk_at dksL_law_29 17 rfl rfl)
theorem dL_law_947 : decode cL_law 947 = .ok (.iload 7, 2) := dk_21 7 (dk_at dksL_law_29 18 rfl rfl)
theorem dL_law_949 : decode cL_law 949 = .ok (.i2l, 1) := dk_133 (dk_at dksL_law_29 20 rfl rfl)
theorem dL_law_950 : decode cL_law 950 = .ok (.lcmp, 1) := dk_148 (dk_at dksL_law_29 21 rfl rfl)
theorem dL_law_951 : decode cL_law 951 = .ok (.ifCond .eq 5, 3) := dk_153 0 5 (dk_at dksL_law_30 0 rfl rfl)
theorem dL_law_954 : decode cL_law 954 = .ok (.iconst 0, 1) := dk_3 (dk_at dksL_law_30 3 rfl rfl)
theorem dL_law_955 : decode cL_law 955 = .ok (.ireturn, 1) := dk_172 (dk_at dksL_law_30 4 rfl rfl)
theorem dL_law_956 : decode cL_law 956 = .ok (.goto 3230, 3) := dk_167 12 158 (dk_at dksL_law_30 5 rfl rfl)
theorem dL_law_959 : decode cL_law 959 = .ok (.aload_n 1, 1) := dk_43 (dk_at dksL_law_30 8 rfl rfl)
theorem dL_law_960 : decode cL_law 960 = .ok (.aload_n 0, 1) := dk_42 (dk_at dksL_law_30 9 rfl rfl)
theorem dL_law_961 : decode cL_law 961 = .ok (.iload 5, 2) := dk_21 5 (dk_at dksL_law_30 10 rfl rfl)
theorem dL_law_963 : decode cL_law 963 = .ok (.iconst 1, 1) := dk_4 (dk_at dksL_law_30 12 rfl rfl)
theorem dL_law_964 : decode cL_law 964 = .ok (.iadd, 1) := dk_96 (dk_at dksL_law_30 13 rfl rfl)
theorem dL_law_965 : decode cL_law 965 = .ok (.iaload, 1) := dk_46 (dk_at dksL_law_30 14 rfl rfl)
theorem dL_law_966 : decode cL_law 966 = .ok (.aload_n 3, 1) := dk_45 (dk_at dksL_law_30 15 rfl rfl)
theorem dL_law_967 : decode cL_law 967 = .ok (.invokestatic 253, 3) := dk_184 0 253 (dk_at dksL_law_30 16 rfl rfl)
theorem dL_law_970 : decode cL_law 970 = .ok (.istore 6, 2) := dk_54 6 (dk_at dksL_law_30 19 rfl rfl)
theorem dL_law_972 : decode cL_law 972 = .ok (.aload_n 2, 1) := dk_44 (dk_at dksL_law_30 21 rfl rfl)
theorem dL_law_973 : decode cL_law 973 = .ok (.aload_n 0, 1) := dk_42 (dk_at dksL_law_30 22 rfl rfl)
theorem dL_law_974 : decode cL_law 974 = .ok (.iload 5, 2) := dk_21 5 (dk_at dksL_law_31 0 rfl rfl)
theorem dL_law_976 : decode cL_law 976 = .ok (.iconst 1, 1) := dk_4 (dk_at dksL_law_31 2 rfl rfl)
theorem dL_law_977 : decode cL_law 977 = .ok (.iadd, 1) := dk_96 (dk_at dksL_law_31 3 rfl rfl)
theorem dL_law_978 : decode cL_law 978 = .ok (.iaload, 1) := dk_46 (dk_at dksL_law_31 4 rfl rfl)
theorem dL_law_979 : decode cL_law 979 = .ok (.invokevirtual 255, 3) := dk_182 0 255 (dk_at dksL_law_31 5 rfl rfl)
theorem dL_law_982 : decode cL_law 982 = .ok (.istore 7, 2) := dk_54 7 (dk_at dksL_law_31 8 rfl rfl)
theorem dL_law_984 : decode cL_law 984 = .ok (.aload_n 2, 1) := dk_44 (dk_at dksL_law_31 10 rfl rfl)
theorem dL_law_985 : decode cL_law 985 = .ok (.invokevirtual 216, 3) := dk_182 0 216 (dk_at dksL_law_31 11 rfl rfl)
theorem dL_law_988 : decode cL_law 988 = .ok (.iload 6, 2) := dk_21 6 (dk_at dksL_law_31 14 rfl rfl)
theorem dL_law_990 : decode cL_law 990 = .ok (.if_icmp .eq 5, 3) := dk_159 0 5 (dk_at dksL_law_31 16 rfl rfl)
theorem dL_law_993 : decode cL_law 993 = .ok (.iconst 0, 1) := dk_3 (dk_at dksL_law_31 19 rfl rfl)
theorem dL_law_994 : decode cL_law 994 = .ok (.ireturn, 1) := dk_172 (dk_at dksL_law_31 20 rfl rfl)
theorem dL_law_995 : decode cL_law 995 = .ok (.iload 6, 2) := dk_21 6 (dk_at dksL_law_31 21 rfl rfl)
theorem dL_law_997 : decode cL_law 997 = .ok (.ifCond .ne 15, 3) := dk_154 0 15 (dk_at dksL_law_32 0 rfl rfl)
theorem dL_law_1000 : decode cL_law 1000 = .ok (.aload_n 3, 1) := dk_45 (dk_at dksL_law_32 3 rfl rfl)
theorem dL_law_1001 : decode cL_law 1001 = .ok (.iconst 0, 1) := dk_3 (dk_at dksL_law_32 4 rfl rfl)
theorem dL_law_1002 : decode cL_law 1002 = .ok (.laload, 1) := dk_47 (dk_at dksL_law_32 5 rfl rfl)
theorem dL_law_1003 : decode cL_law 1003 = .ok (.iload 7, 2) := dk_21 7 (dk_at dksL_law_32 6 rfl rfl)
theorem dL_law_1005 : decode cL_law 1005 = .ok (.i2l, 1) := dk_133 (dk_at dksL_law_32 8 rfl rfl)
theorem dL_law_1006 : decode cL_law 1006 = .ok (.lcmp, 1) := dk_148 (dk_at dksL_law_32 9 rfl rfl)
theorem dL_law_1007 : decode cL_law 1007 = .ok (.ifCond .eq 5, 3) := dk_153 0 5 (dk_at dksL_law_32 10 rfl rfl)
theorem dL_law_1010 : decode cL_law 1010 = .ok (.iconst 0, 1) := dk_3 (dk_at dksL_law_32 13 rfl rfl)
theorem dL_law_1011 : decode cL_law 1011 = .ok (.ireturn, 1) := dk_172 (dk_at dksL_law_32 14 rfl rfl)
theorem dL_law_1012 : decode cL_law 1012 = .ok (.goto 3174, 3) := dk_167 12 102 (dk_at dksL_law_32 15 rfl rfl)
theorem dL_law_1015 : decode cL_law 1015 = .ok (.aload_n 1, 1) := dk_43 (dk_at dksL_law_32 18 rfl rfl)
theorem dL_law_1016 : decode cL_law 1016 = .ok (.aload_n 0, 1) := dk_42 (dk_at dksL_law_32 19 rfl rfl)
theorem dL_law_1017 : decode cL_law 1017 = .ok (.iload 5, 2) := dk_21 5 (dk_at dksL_law_32 20 rfl rfl)
theorem dL_law_1019 : decode cL_law 1019 = .ok (.iconst 1, 1) := dk_4 (dk_at dksL_law_32 22 rfl rfl)
theorem dL_law_1020 : decode cL_law 1020 = .ok (.iadd, 1) := dk_96 (dk_at dksL_law_32 23 rfl rfl)
theorem dL_law_1021 : decode cL_law 1021 = .ok (.iaload, 1) := dk_46 (dk_at dksL_law_33 0 rfl rfl)
theorem dL_law_1022 : decode cL_law 1022 = .ok (.aload_n 0, 1) := dk_42 (dk_at dksL_law_33 1 rfl rfl)
theorem dL_law_1023 : decode cL_law 1023 = .ok (.iload 5, 2) := dk_21 5 (dk_at dksL_law_33 2 rfl rfl)
theorem dL_law_1025 : decode cL_law 1025 = .ok (.iconst 2, 1) := dk_5 (dk_at dksL_law_33 4 rfl rfl)
theorem dL_law_1026 : decode cL_law 1026 = .ok (.iadd, 1) := dk_96 (dk_at dksL_law_33 5 rfl rfl)
theorem dL_law_1027 : decode cL_law 1027 = .ok (.iaload, 1) := dk_46 (dk_at dksL_law_33 6 rfl rfl)
theorem dL_law_1028 : decode cL_law 1028 = .ok (.aload_n 0, 1) := dk_42 (dk_at dksL_law_33 7 rfl rfl)
theorem dL_law_1029 : decode cL_law 1029 = .ok (.iload 5, 2) := dk_21 5 (dk_at dksL_law_33 8 rfl rfl)
theorem dL_law_1031 : decode cL_law 1031 = .ok (.iconst 3, 1) := dk_6 (dk_at dksL_law_33 10 rfl rfl)
theorem dL_law_1032 : decode cL_law 1032 = .ok (.iadd, 1) := dk_96 (dk_at dksL_law_33 11 rfl rfl)
theorem dL_law_1033 : decode cL_law 1033 = .ok (.iaload, 1) := dk_46 (dk_at dksL_law_33 12 rfl rfl)
theorem dL_law_1034 : decode cL_law 1034 = .ok (.aload_n 0, 1) := dk_42 (dk_at dksL_law_33 13 rfl rfl)
theorem dL_law_1035 : decode cL_law 1035 = .ok (.iload 5, 2) := dk_21 5 (dk_at dksL_law_33 14 rfl rfl)
theorem dL_law_1037 : decode cL_law 1037 = .ok (.iconst 4, 1) := dk_7 (dk_at dksL_law_33 16 rfl rfl)
theorem dL_law_1038 : decode cL_law 1038 = .ok (.iadd, 1) := dk_96 (dk_at dksL_law_33 17 rfl rfl)
theorem dL_law_1039 : decode cL_law 1039 = .ok (.iaload, 1) := dk_46 (dk_at dksL_law_33 18 rfl rfl)
theorem dL_law_1040 : decode cL_law 1040 = .ok (.aload_n 3, 1) := dk_45 (dk_at dksL_law_33 19 rfl rfl)
theorem dL_law_1041 : decode cL_law 1041 = .ok (.invokestatic 256, 3) := dk_184 1 0 (dk_at dksL_law_33 20 rfl rfl)
theorem dL_law_1044 : decode cL_law 1044 = .ok (.istore 6, 2) := dk_54 6 (dk_at dksL_law_34 0 rfl rfl)
theorem dL_law_1046 : decode cL_law 1046 = .ok (.aload_n 2, 1) := dk_44 (dk_at dksL_law_34 2 rfl rfl)
theorem dL_law_1047 : decode cL_law 1047 = .ok (.aload_n 0, 1) := dk_42 (dk_at dksL_law_34 3 rfl rfl)
theorem dL_law_1048 : decode cL_law 1048 = .ok (.iload 5, 2) := dk_21 5 (dk_at dksL_law_34 4 rfl rfl)
theorem dL_law_1050 : decode cL_law 1050 = .ok (.iconst 1, 1) := dk_4 (dk_at dksL_law_34 6 rfl rfl)
theorem dL_law_1051 : decode cL_law 1051 = .ok (.iadd, 1) := dk_96 (dk_at dksL_law_34 7 rfl rfl)
theorem dL_law_1052 : decode cL_law 1052 = .ok (.iaload, 1) := dk_46 (dk_at dksL_law_34 8 rfl rfl)
theorem dL_law_1053 : decode cL_law 1053 = .ok (.aload_n 0, 1) := dk_42 (dk_at dksL_law_34 9 rfl rfl)
theorem dL_law_1054 : decode cL_law 1054 = .ok (.iload 5, 2) := dk_21 5 (dk_at dksL_law_34 10 rfl rfl)
theorem dL_law_1056 : decode cL_law 1056 = .ok (.iconst 2, 1) := dk_5 (dk_at dksL_law_34 12 rfl rfl)
theorem dL_law_1057 : decode cL_law 1057 = .ok (.iadd, 1) := dk_96 (dk_at dksL_law_34 13 rfl rfl)
theorem dL_law_1058 : decode cL_law 1058 = .ok (.iaload, 1) := dk_46 (dk_at dksL_law_34 14 rfl rfl)
theorem dL_law_1059 : decode cL_law 1059 = .ok (.aload_n 0, 1) := dk_42 (dk_at dksL_law_34 15 rfl rfl)
theorem dL_law_1060 : decode cL_law 1060 = .ok (.iload 5, 2) := dk_21 5 (dk_at dksL_law_34 16 rfl rfl)
theorem dL_law_1062 : decode cL_law 1062 = .ok (.iconst 3, 1) := dk_6 (dk_at dksL_law_34 18 rfl rfl)
theorem dL_law_1063 : decode cL_law 1063 = .ok (.iadd, 1) := dk_96 (dk_at dksL_law_34 19 rfl rfl)
theorem dL_law_1064 : decode cL_law 1064 = .ok (.iaload, 1) := dk_46 (dk_at dksL_law_34 20 rfl rfl)
theorem dL_law_1065 : decode cL_law 1065 = .ok (.aload_n 0, 1) := dk_42 (dk_at dksL_law_34 21 rfl rfl)
theorem dL_law_1066 : decode cL_law 1066 = .ok (.iload 5, 2) := dk_21 5 (dk_at dksL_law_34 22 rfl rfl)
theorem dL_law_1068 : decode cL_law 1068 = .ok (.iconst 4, 1) := dk_7 (dk_at dksL_law_35 0 rfl rfl)
theorem dL_law_1069 : decode cL_law 1069 = .ok (.iadd, 1) := dk_96 (dk_at dksL_law_35 1 rfl rfl)
theorem dL_law_1070 : decode cL_law 1070 = .ok (.iaload, 1) := dk_46 (dk_at dksL_law_35 2 rfl rfl)
theorem dL_law_1071 : decode cL_law 1071 = .ok (.invokevirtual 258, 3) := dk_182 1 2 (dk_at dksL_law_35 3 rfl rfl)
theorem dL_law_1074 : decode cL_law 1074 = .ok (.istore 7, 2) := dk_54 7 (dk_at dksL_law_35 6 rfl rfl)
theorem dL_law_1076 : decode cL_law 1076 = .ok (.aload_n 2, 1) := dk_44 (dk_at dksL_law_35 8 rfl rfl)
theorem dL_law_1077 : decode cL_law 1077 = .ok (.invokevirtual 216, 3) := dk_182 0 216 (dk_at dksL_law_35 9 rfl rfl)
theorem dL_law_1080 : decode cL_law 1080 = .ok (.iload 6, 2) := dk_21 6 (dk_at dksL_law_35 12 rfl rfl)
theorem dL_law_1082 : decode cL_law 1082 = .ok (.if_icmp .eq 5, 3) := dk_159 0 5 (dk_at dksL_law_35 14 rfl rfl)
theorem dL_law_1085 : decode cL_law 1085 = .ok (.iconst 0, 1) := dk_3 (dk_at dksL_law_35 17 rfl rfl)
theorem dL_law_1086 : decode cL_law 1086 = .ok (.ireturn, 1) := dk_172 (dk_at dksL_law_35 18 rfl rfl)
theorem dL_law_1087 : decode cL_law 1087 = .ok (.iload 6, 2) := dk_21 6 (dk_at dksL_law_35 19 rfl rfl)
theorem dL_law_1089 : decode cL_law 1089 = .ok (.ifCond .ne 15, 3) := dk_154 0 15 (dk_at dksL_law_35 21 rfl rfl)
theorem dL_law_1092 : decode cL_law 1092 = .ok (.aload_n 3, 1) := dk_45 (dk_at dksL_law_36 0 rfl rfl)
theorem dL_law_1093 : decode cL_law 1093 = .ok (.iconst 0, 1) := dk_3 (dk_at dksL_law_36 1 rfl rfl)
theorem dL_law_1094 : decode cL_law 1094 = .ok (.laload, 1) := dk_47 (dk_at dksL_law_36 2 rfl rfl)
theorem dL_law_1095 : decode cL_law 1095 = .ok (.iload 7, 2) := dk_21 7 (dk_at dksL_law_36 3 rfl rfl)
theorem dL_law_1097 : decode cL_law 1097 = .ok (.i2l, 1) := dk_133 (dk_at dksL_law_36 5 rfl rfl)
theorem dL_law_1098 : decode cL_law 1098 = .ok (.lcmp, 1) := dk_148 (dk_at dksL_law_36 6 rfl rfl)
theorem dL_law_1099 : decode cL_law 1099 = .ok (.ifCond .eq 5, 3) := dk_153 0 5 (dk_at dksL_law_36 7 rfl rfl)
theorem dL_law_1102 : decode cL_law 1102 = .ok (.iconst 0, 1) := dk_3 (dk_at dksL_law_36 10 rfl rfl)
theorem dL_law_1103 : decode cL_law 1103 = .ok (.ireturn, 1) := dk_172 (dk_at dksL_law_36 11 rfl rfl)
theorem dL_law_1104 : decode cL_law 1104 = .ok (.goto 3082, 3) := dk_167 12 10 (dk_at dksL_law_36 12 rfl rfl)
theorem dL_law_1107 : decode cL_law 1107 = .ok (.aload_n 1, 1) := dk_43 (dk_at dksL_law_36 15 rfl rfl)
theorem dL_law_1108 : decode cL_law 1108 = .ok (.aload_n 0, 1) := dk_42 (dk_at dksL_law_36 16 rfl rfl)
theorem dL_law_1109 : decode cL_law 1109 = .ok (.iload 5, 2) := dk_21 5 (dk_at dksL_law_36 17 rfl rfl)
theorem dL_law_1111 : decode cL_law 1111 = .ok (.iconst 1, 1) := dk_4 (dk_at dksL_law_36 19 rfl rfl)
theorem dL_law_1112 : decode cL_law 1112 = .ok (.iadd, 1) := dk_96 (dk_at dksL_law_36 20 rfl rfl)
theorem dL_law_1113 : decode cL_law 1113 = .ok (.iaload, 1) := dk_46 (dk_at dksL_law_36 21 rfl rfl)
theorem dL_law_1114 : decode cL_law 1114 = .ok (.aload_n 0, 1) := dk_42 (dk_at dksL_law_36 22 rfl rfl)
theorem dL_law_1115 : decode cL_law 1115 = .ok (.iload 5, 2) := dk_21 5 (dk_at dksL_law_37 0 rfl rfl)
theorem dL_law_1117 : decode cL_law 1117 = .ok (.iconst 2, 1) := dk_5 (dk_at dksL_law_37 2 rfl rfl)
theorem dL_law_1118 : decode cL_law 1118 = .ok (.iadd, 1) := dk_96 (dk_at dksL_law_37 3 rfl rfl)
theorem dL_law_1119 : decode cL_law 1119 = .ok (.iaload, 1) := dk_46 (dk_at dksL_law_37 4 rfl rfl)
theorem dL_law_1120 : decode cL_law 1120 = .ok (.aload_n 3, 1) := dk_45 (dk_at dksL_law_37 5 rfl rfl)
theorem dL_law_1121 : decode cL_law 1121 = .ok (.invokestatic 259, 3) := dk_184 1 3 (dk_at dksL_law_37 6 rfl rfl)
theorem dL_law_1124 : decode cL_law 1124 = .ok (.istore 6, 2) := dk_54 6 (dk_at dksL_law_37 9 rfl rfl)
theorem dL_law_1126 : decode cL_law 1126 = .ok (.aload_n 2, 1) := dk_44 (dk_at dksL_law_37 11 rfl rfl)
theorem dL_law_1127 : decode cL_law 1127 = .ok (.aload_n 0, 1) := dk_42 (dk_at dksL_law_37 12 rfl rfl)
theorem dL_law_1128 : decode cL_law 1128 = .ok (.iload 5, 2) := dk_21 5 (dk_at dksL_law_37 13 rfl rfl)
theorem dL_law_1130 : decode cL_law 1130 = .ok (.iconst 1, 1) := dk_4 (dk_at dksL_law_37 15 rfl rfl)
theorem dL_law_1131 : decode cL_law 1131 = .ok (.iadd, 1) := dk_96 (dk_at dksL_law_37 16 rfl rfl)
theorem dL_law_1132 : decode cL_law 1132 = .ok (.iaload, 1) := dk_46 (dk_at dksL_law_37 17 rfl rfl)
theorem dL_law_1133 : decode cL_law 1133 = .ok (.aload_n 0, 1) := dk_42 (dk_at dksL_law_37 18 rfl rfl)
theorem dL_law_1134 : decode cL_law 1134 = .ok (.iload 5, 2) := dk_21 5 (dk_at dksL_law_37 19 rfl rfl)
theorem dL_law_1136 : decode cL_law 1136 = .ok (.iconst 2, 1) := dk_5 (dk_at dksL_law_37 21 rfl rfl)
theorem dL_law_1137 : decode cL_law 1137 = .ok (.iadd, 1) := dk_96 (dk_at dksL_law_37 22 rfl rfl)
theorem dL_law_1138 : decode cL_law 1138 = .ok (.iaload, 1) := dk_46 (dk_at dksL_law_37 23 rfl rfl)
theorem dL_law_1139 : decode cL_law 1139 = .ok (.invokevirtual 261, 3) := dk_182 1 5 (dk_at dksL_law_38 0 rfl rfl)
theorem dL_law_1142 : decode cL_law 1142 = .ok (.istore 7, 2) := dk_54 7 (dk_at dksL_law_38 3 rfl rfl)
theorem dL_law_1144 : decode cL_law 1144 = .ok (.aload_n 2, 1) := dk_44 (dk_at dksL_law_38 5 rfl rfl)
theorem dL_law_1145 : decode cL_law 1145 = .ok (.invokevirtual 216, 3) := dk_182 0 216 (dk_at dksL_law_38 6 rfl rfl)
theorem dL_law_1148 : decode cL_law 1148 = .ok (.iload 6, 2) := dk_21 6 (dk_at dksL_law_38 9 rfl rfl)
theorem dL_law_1150 : decode cL_law 1150 = .ok (.if_icmp .eq 5, 3) := dk_159 0 5 (dk_at dksL_law_38 11 rfl rfl)
theorem dL_law_1153 : decode cL_law 1153 = .ok (.iconst 0, 1) := dk_3 (dk_at dksL_law_38 14 rfl rfl)
theorem dL_law_1154 : decode cL_law 1154 = .ok (.ireturn, 1) := dk_172 (dk_at dksL_law_38 15 rfl rfl)
theorem dL_law_1155 : decode cL_law 1155 = .ok (.iload 6, 2) := dk_21 6 (dk_at dksL_law_38 16 rfl rfl)
theorem dL_law_1157 : decode cL_law 1157 = .ok (.ifCond .ne 15, 3) := dk_154 0 15 (dk_at dksL_law_38 18 rfl rfl)
theorem dL_law_1160 : decode cL_law 1160 = .ok (.aload_n 3, 1) := dk_45 (dk_at dksL_law_38 21 rfl rfl)
theorem dL_law_1161 : decode cL_law 1161 = .ok (.iconst 0, 1) := dk_3 (dk_at dksL_law_38 22 rfl rfl)
theorem dL_law_1162 : decode cL_law 1162 = .ok (.laload, 1) := dk_47 (dk_at dksL_law_38 23 rfl rfl)
theorem dL_law_1163 : decode cL_law 1163 = .ok (.iload 7, 2) := dk_21 7 (dk_at dksL_law_39 0 rfl rfl)
theorem dL_law_1165 : decode cL_law 1165 = .ok (.i2l, 1) := dk_133 (dk_at dksL_law_39 2 rfl rfl)
theorem dL_law_1166 : decode cL_law 1166 = .ok (.lcmp, 1) := dk_148 (dk_at dksL_law_39 3 rfl rfl)
theorem dL_law_1167 : decode cL_law 1167 = .ok (.ifCond .eq 5, 3) := dk_153 0 5 (dk_at dksL_law_39 4 rfl rfl)
theorem dL_law_1170 : decode cL_law 1170 = .ok (.iconst 0, 1) := dk_3 (dk_at dksL_law_39 7 rfl rfl)
theorem dL_law_1171 : decode cL_law 1171 = .ok (.ireturn, 1) := dk_172 (dk_at dksL_law_39 8 rfl rfl)
theorem dL_law_1172 : decode cL_law 1172 = .ok (.goto 3014, 3) := dk_167 11 198 (dk_at dksL_law_39 9 rfl rfl)
theorem dL_law_1175 : decode cL_law 1175 = .ok (.aload_n 1, 1) := dk_43 (dk_at dksL_law_39 12 rfl rfl)
theorem dL_law_1176 : decode cL_law 1176 = .ok (.aload_n 0, 1) := dk_42 (dk_at dksL_law_39 13 rfl rfl)
theorem dL_law_1177 : decode cL_law 1177 = .ok (.iload 5, 2) := dk_21 5 (dk_at dksL_law_39 14 rfl rfl)
theorem dL_law_1179 : decode cL_law 1179 = .ok (.iconst 1, 1) := dk_4 (dk_at dksL_law_39 16 rfl rfl)
theorem dL_law_1180 : decode cL_law 1180 = .ok (.iadd, 1) := dk_96 (dk_at dksL_law_39 17 rfl rfl)
theorem dL_law_1181 : decode cL_law 1181 = .ok (.iaload, 1) := dk_46 (dk_at dksL_law_39 18 rfl rfl)
theorem dL_law_1182 : decode cL_law 1182 = .ok (.aload_n 0, 1) := dk_42 (dk_at dksL_law_39 19 rfl rfl)
theorem dL_law_1183 : decode cL_law 1183 = .ok (.iload 5, 2) := dk_21 5 (dk_at dksL_law_39 20 rfl rfl)
theorem dL_law_1185 : decode cL_law 1185 = .ok (.iconst 2, 1) := dk_5 (dk_at dksL_law_39 22 rfl rfl)
theorem dL_law_1186 : decode cL_law 1186 = .ok (.iadd, 1) := dk_96 (dk_at dksL_law_39 23 rfl rfl)
theorem dL_law_1187 : decode cL_law 1187 = .ok (.iaload, 1) := dk_46 (dk_at dksL_law_40 0 rfl rfl)
theorem dL_law_1188 : decode cL_law 1188 = .ok (.aload_n 3, 1) := dk_45 (dk_at dksL_law_40 1 rfl rfl)
theorem dL_law_1189 : decode cL_law 1189 = .ok (.invokestatic 262, 3) := dk_184 1 6 (dk_at dksL_law_40 2 rfl rfl)
theorem dL_law_1192 : decode cL_law 1192 = .ok (.istore 6, 2) := dk_54 6 (dk_at dksL_law_40 5 rfl rfl)
theorem dL_law_1194 : decode cL_law 1194 = .ok (.aload_n 2, 1) := dk_44 (dk_at dksL_law_40 7 rfl rfl)
theorem dL_law_1195 : decode cL_law 1195 = .ok (.aload_n 0, 1) := dk_42 (dk_at dksL_law_40 8 rfl rfl)
theorem dL_law_1196 : decode cL_law 1196 = .ok (.iload 5, 2) := dk_21 5 (dk_at dksL_law_40 9 rfl rfl)
theorem dL_law_1198 : decode cL_law 1198 = .ok (.iconst 1, 1) := dk_4 (dk_at dksL_law_40 11 rfl rfl)
theorem dL_law_1199 : decode cL_law 1199 = .ok (.iadd, 1) := dk_96 (dk_at dksL_law_40 12 rfl rfl)
theorem dL_law_1200 : decode cL_law 1200 = .ok (.iaload, 1) := dk_46 (dk_at dksL_law_40 13 rfl rfl)
theorem dL_law_1201 : decode cL_law 1201 = .ok (.aload_n 0, 1) := dk_42 (dk_at dksL_law_40 14 rfl rfl)
theorem dL_law_1202 : decode cL_law 1202 = .ok (.iload 5, 2) := dk_21 5 (dk_at dksL_law_40 15 rfl rfl)
theorem dL_law_1204 : decode cL_law 1204 = .ok (.iconst 2, 1) := dk_5 (dk_at dksL_law_40 17 rfl rfl)
theorem dL_law_1205 : decode cL_law 1205 = .ok (.iadd, 1) := dk_96 (dk_at dksL_law_40 18 rfl rfl)
theorem dL_law_1206 : decode cL_law 1206 = .ok (.iaload, 1) := dk_46 (dk_at dksL_law_40 19 rfl rfl)
theorem dL_law_1207 : decode cL_law 1207 = .ok (.invokevirtual 264, 3) := dk_182 1 8 (dk_at dksL_law_40 20 rfl rfl)
theorem dL_law_1210 : decode cL_law 1210 = .ok (.istore 7, 2) := dk_54 7 (dk_at dksL_law_41 0 rfl rfl)
theorem dL_law_1212 : decode cL_law 1212 = .ok (.aload_n 2, 1) := dk_44 (dk_at dksL_law_41 2 rfl rfl)
theorem dL_law_1213 : decode cL_law 1213 = .ok (.invokevirtual 216, 3) := dk_182 0 216 (dk_at dksL_law_41 3 rfl rfl)
theorem dL_law_1216 : decode cL_law 1216 = .ok (.iload 6, 2) := dk_21 6 (dk_at dksL_law_41 6 rfl rfl)
theorem dL_law_1218 : decode cL_law 1218 = .ok (.if_icmp .eq 5, 3) := dk_159 0 5 (dk_at dksL_law_41 8 rfl rfl)
theorem dL_law_1221 : decode cL_law 1221 = .ok (.iconst 0, 1) := dk_3 (dk_at dksL_law_41 11 rfl rfl)
theorem dL_law_1222 : decode cL_law 1222 = .ok (.ireturn, 1) := dk_172 (dk_at dksL_law_41 12 rfl rfl)
theorem dL_law_1223 : decode cL_law 1223 = .ok (.iload 6, 2) := dk_21 6 (dk_at dksL_law_41 13 rfl rfl)
theorem dL_law_1225 : decode cL_law 1225 = .ok (.ifCond .ne 15, 3) := dk_154 0 15 (dk_at dksL_law_41 15 rfl rfl)
theorem dL_law_1228 : decode cL_law 1228 = .ok (.aload_n 3, 1) := dk_45 (dk_at dksL_law_41 18 rfl rfl)
theorem dL_law_1229 : decode cL_law 1229 = .ok (.iconst 0, 1) := dk_3 (dk_at dksL_law_41 19 rfl rfl)
theorem dL_law_1230 : decode cL_law 1230 = .ok (.laload, 1) := dk_47 (dk_at dksL_law_41 20 rfl rfl)
theorem dL_law_1231 : decode cL_law 1231 = .ok (.iload 7, 2) := dk_21 7 (dk_at dksL_law_41 21 rfl rfl)
theorem dL_law_1233 : decode cL_law 1233 = .ok (.i2l, 1) := dk_133 (dk_at dksL_law_41 23 rfl rfl)
theorem dL_law_1234 : decode cL_law 1234 = .ok (.lcmp, 1) := dk_148 (dk_at dksL_law_42 0 rfl rfl)
theorem dL_law_1235 : decode cL_law 1235 = .ok (.ifCond .eq 5, 3) := dk_153 0 5 (dk_at dksL_law_42 1 rfl rfl)
theorem dL_law_1238 : decode cL_law 1238 = .ok (.iconst 0, 1) := dk_3 (dk_at dksL_law_42 4 rfl rfl)
theorem dL_law_1239 : decode cL_law 1239 = .ok (.ireturn, 1) := dk_172 (dk_at dksL_law_42 5 rfl rfl)
theorem dL_law_1240 : decode cL_law 1240 = .ok (.goto 2946, 3) := dk_167 11 130 (dk_at dksL_law_42 6 rfl rfl)
theorem dL_law_1243 : decode cL_law 1243 = .ok (.aload_n 1, 1) := dk_43 (dk_at dksL_law_42 9 rfl rfl)
theorem dL_law_1244 : decode cL_law 1244 = .ok (.aload_n 0, 1) := dk_42 (dk_at dksL_law_42 10 rfl rfl)
theorem dL_law_1245 : decode cL_law 1245 = .ok (.iload 5, 2) := dk_21 5 (dk_at dksL_law_42 11 rfl rfl)
theorem dL_law_1247 : decode cL_law 1247 = .ok (.iconst 1, 1) := dk_4 (dk_at dksL_law_42 13 rfl rfl)
theorem dL_law_1248 : decode cL_law 1248 = .ok (.iadd, 1) := dk_96 (dk_at dksL_law_42 14 rfl rfl)
theorem dL_law_1249 : decode cL_law 1249 = .ok (.iaload, 1) := dk_46 (dk_at dksL_law_42 15 rfl rfl)
theorem dL_law_1250 : decode cL_law 1250 = .ok (.aload_n 0, 1) := dk_42 (dk_at dksL_law_42 16 rfl rfl)
theorem dL_law_1251 : decode cL_law 1251 = .ok (.iload 5, 2) := dk_21 5 (dk_at dksL_law_42 17 rfl rfl)
theorem dL_law_1253 : decode cL_law 1253 = .ok (.iconst 2, 1) := dk_5 (dk_at dksL_law_42 19 rfl rfl)
theorem dL_law_1254 : decode cL_law 1254 = .ok (.iadd, 1) := dk_96 (dk_at dksL_law_42 20 rfl rfl)
theorem dL_law_1255 : decode cL_law 1255 = .ok (.iaload, 1) := dk_46 (dk_at dksL_law_42 21 rfl rfl)
theorem dL_law_1256 : decode cL_law 1256 = .ok (.aload_n 0, 1) := dk_42 (dk_at dksL_law_42 22 rfl rfl)
theorem dL_law_1257 : decode cL_law 1257 = .ok (.iload 5, 2) := dk_21 5 (dk_at dksL_law_43 0 rfl rfl)
theorem dL_law_1259 : decode cL_law 1259 = .ok (.iconst 3, 1) := dk_6 (dk_at dksL_law_43 2 rfl rfl)
theorem dL_law_1260 : decode cL_law 1260 = .ok (.iadd, 1) := dk_96 (dk_at dksL_law_43 3 rfl rfl)
theorem dL_law_1261 : decode cL_law 1261 = .ok (.iaload, 1) := dk_46 (dk_at dksL_law_43 4 rfl rfl)
theorem dL_law_1262 : decode cL_law 1262 = .ok (.aload_n 3, 1) := dk_45 (dk_at dksL_law_43 5 rfl rfl)
theorem dL_law_1263 : decode cL_law 1263 = .ok (.invokestatic 265, 3) := dk_184 1 9 (dk_at dksL_law_43 6 rfl rfl)
theorem dL_law_1266 : decode cL_law 1266 = .ok (.istore 6, 2) := dk_54 6 (dk_at dksL_law_43 9 rfl rfl)
theorem dL_law_1268 : decode cL_law 1268 = .ok (.aload_n 2, 1) := dk_44 (dk_at dksL_law_43 11 rfl rfl)
theorem dL_law_1269 : decode cL_law 1269 = .ok (.aload_n 0, 1) := dk_42 (dk_at dksL_law_43 12 rfl rfl)
theorem dL_law_1270 : decode cL_law 1270 = .ok (.iload 5, 2) := dk_21 5 (dk_at dksL_law_43 13 rfl rfl)
theorem dL_law_1272 : decode cL_law 1272 = .ok (.iconst 1, 1) := dk_4 (dk_at dksL_law_43 15 rfl rfl)
theorem dL_law_1273 : decode cL_law 1273 = .ok (.iadd, 1) := dk_96 (dk_at dksL_law_43 16 rfl rfl)
theorem dL_law_1274 : decode cL_law 1274 = .ok (.iaload, 1) := dk_46 (dk_at dksL_law_43 17 rfl rfl)
theorem dL_law_1275 : decode cL_law 1275 = .ok (.aload_n 0, 1) := dk_42 (dk_at dksL_law_43 18 rfl rfl)
theorem dL_law_1276 : decode cL_law 1276 = .ok (.iload 5, 2) := dk_21 5 (dk_at dksL_law_43 19 rfl rfl)
theorem dL_law_1278 : decode cL_law 1278 = .ok (.iconst 2, 1) := dk_5 (dk_at dksL_law_43 21 rfl rfl)
theorem dL_law_1279 : decode cL_law 1279 = .ok (.iadd, 1) := dk_96 (dk_at dksL_law_43 22 rfl rfl)
theorem dL_law_1280 : decode cL_law 1280 = .ok (.iaload, 1) := dk_46 (dk_at dksL_law_43 23 rfl rfl)
theorem dL_law_1281 : decode cL_law 1281 = .ok (.aload_n 0, 1) := dk_42 (dk_at dksL_law_44 0 rfl rfl)
theorem dL_law_1282 : decode cL_law 1282 = .ok (.iload 5, 2) := dk_21 5 (dk_at dksL_law_44 1 rfl rfl)
theorem dL_law_1284 : decode cL_law 1284 = .ok (.iconst 3, 1) := dk_6 (dk_at dksL_law_44 3 rfl rfl)
theorem dL_law_1285 : decode cL_law 1285 = .ok (.iadd, 1) := dk_96 (dk_at dksL_law_44 4 rfl rfl)
theorem dL_law_1286 : decode cL_law 1286 = .ok (.iaload, 1) := dk_46 (dk_at dksL_law_44 5 rfl rfl)
theorem dL_law_1287 : decode cL_law 1287 = .ok (.invokevirtual 268, 3) := dk_182 1 12 (dk_at dksL_law_44 6 rfl rfl)
theorem dL_law_1290 : decode cL_law 1290 = .ok (.istore 7, 2) := dk_54 7 (dk_at dksL_law_44 9 rfl rfl)
theorem dL_law_1292 : decode cL_law 1292 = .ok (.aload_n 2, 1) := dk_44 (dk_at dksL_law_44 11 rfl rfl)
theorem dL_law_1293 : decode cL_law 1293 = .ok (.invokevirtual 216, 3) := dk_182 0 216 (dk_at dksL_law_44 12 rfl rfl)
theorem dL_law_1296 : decode cL_law 1296 = .ok (.iload 6, 2) := dk_21 6 (dk_at dksL_law_44 15 rfl rfl)
theorem dL_law_1298 : decode cL_law 1298 = .ok (.if_icmp .eq 5, 3) := dk_159 0 5 (dk_at dksL_law_44 17 rfl rfl)
theorem dL_law_1301 : decode cL_law 1301 = .ok (.iconst 0, 1) := dk_3 (dk_at dksL_law_44 20 rfl rfl)
theorem dL_law_1302 : decode cL_law 1302 = .ok (.ireturn, 1) := dk_172 (dk_at dksL_law_44 21 rfl rfl)
theorem dL_law_1303 : decode cL_law 1303 = .ok (.iload 6, 2) := dk_21 6 (dk_at dksL_law_44 22 rfl rfl)
theorem dL_law_1305 : decode cL_law 1305 = .ok (.ifCond .ne 15, 3) := dk_154 0 15 (dk_at dksL_law_45 0 rfl rfl)
theorem dL_law_1308 : decode cL_law 1308 = .ok (.aload_n 3, 1) := dk_45 (dk_at dksL_law_45 3 rfl rfl)
theorem dL_law_1309 : decode cL_law 1309 = .ok (.iconst 0, 1) := dk_3 (dk_at dksL_law_45 4 rfl rfl)
theorem dL_law_1310 : decode cL_law 1310 = .ok (.laload, 1) := dk_47 (dk_at dksL_law_45 5 rfl rfl)
theorem dL_law_1311 : decode cL_law 1311 = .ok (.iload 7, 2) := dk_21 7 (dk_at dksL_law_45 6 rfl rfl)
theorem dL_law_1313 : decode cL_law 1313 = .ok (.i2l, 1) := dk_133 (dk_at dksL_law_45 8 rfl rfl)
theorem dL_law_1314 : decode cL_law 1314 = .ok (.lcmp, 1) := dk_148 (dk_at dksL_law_45 9 rfl rfl)
theorem dL_law_1315 : decode cL_law 1315 = .ok (.ifCond .eq 5, 3) := dk_153 0 5 (dk_at dksL_law_45 10 rfl rfl)
theorem dL_law_1318 : decode cL_law 1318 = .ok (.iconst 0, 1) := dk_3 (dk_at dksL_law_45 13 rfl rfl)
theorem dL_law_1319 : decode cL_law 1319 = .ok (.ireturn, 1) := dk_172 (dk_at dksL_law_45 14 rfl rfl)
theorem dL_law_1320 : decode cL_law 1320 = .ok (.goto 2866, 3) := dk_167 11 50 (dk_at dksL_law_45 15 rfl rfl)
theorem dL_law_1323 : decode cL_law 1323 = .ok (.aload_n 1, 1) := dk_43 (dk_at dksL_law_45 18 rfl rfl)
theorem dL_law_1324 : decode cL_law 1324 = .ok (.aload_n 0, 1) := dk_42 (dk_at dksL_law_45 19 rfl rfl)
theorem dL_law_1325 : decode cL_law 1325 = .ok (.iload 5, 2) := dk_21 5 (dk_at dksL_law_45 20 rfl rfl)
theorem dL_law_1327 : decode cL_law 1327 = .ok (.iconst 1, 1) := dk_4 (dk_at dksL_law_45 22 rfl rfl)
theorem dL_law_1328 : decode cL_law 1328 = .ok (.iadd, 1) := dk_96 (dk_at dksL_law_45 23 rfl rfl)
theorem dL_law_1329 : decode cL_law 1329 = .ok (.iaload, 1) := dk_46 (dk_at dksL_law_46 0 rfl rfl)
theorem dL_law_1330 : decode cL_law 1330 = .ok (.aload_n 0, 1) := dk_42 (dk_at dksL_law_46 1 rfl rfl)
theorem dL_law_1331 : decode cL_law 1331 = .ok (.iload 5, 2) := dk_21 5 (dk_at dksL_law_46 2 rfl rfl)
theorem dL_law_1333 : decode cL_law 1333 = .ok (.iconst 2, 1) := dk_5 (dk_at dksL_law_46 4 rfl rfl)
theorem dL_law_1334 : decode cL_law 1334 = .ok (.iadd, 1) := dk_96 (dk_at dksL_law_46 5 rfl rfl)
theorem dL_law_1335 : decode cL_law 1335 = .ok (.iaload, 1) := dk_46 (dk_at dksL_law_46 6 rfl rfl)
theorem dL_law_1336 : decode cL_law 1336 = .ok (.aload_n 0, 1) := dk_42 (dk_at dksL_law_46 7 rfl rfl)
theorem dL_law_1337 : decode cL_law 1337 = .ok (.iload 5, 2) := dk_21 5 (dk_at dksL_law_46 8 rfl rfl)
theorem dL_law_1339 : decode cL_law 1339 = .ok (.iconst 3, 1) := dk_6 (dk_at dksL_law_46 10 rfl rfl)
theorem dL_law_1340 : decode cL_law 1340 = .ok (.iadd, 1) := dk_96 (dk_at dksL_law_46 11 rfl rfl)
theorem dL_law_1341 : decode cL_law 1341 = .ok (.iaload, 1) := dk_46 (dk_at dksL_law_46 12 rfl rfl)
theorem dL_law_1342 : decode cL_law 1342 = .ok (.aload_n 0, 1) := dk_42 (dk_at dksL_law_46 13 rfl rfl)
theorem dL_law_1343 : decode cL_law 1343 = .ok (.iload 5, 2) := dk_21 5 (dk_at dksL_law_46 14 rfl rfl)
theorem dL_law_1345 : decode cL_law 1345 = .ok (.iconst 4, 1) := dk_7 (dk_at dksL_law_46 16 rfl rfl)
theorem dL_law_1346 : decode cL_law 1346 = .ok (.iadd, 1) := dk_96 (dk_at dksL_law_46 17 rfl rfl)
theorem dL_law_1347 : decode cL_law 1347 = .ok (.iaload, 1) := dk_46 (dk_at dksL_law_46 18 rfl rfl)
theorem dL_law_1348 : decode cL_law 1348 = .ok (.aload_n 3, 1) := dk_45 (dk_at dksL_law_46 19 rfl rfl)
theorem dL_law_1349 : decode cL_law 1349 = .ok (.invokestatic 269, 3) := dk_184 1 13 (dk_at dksL_law_46 20 rfl rfl)
theorem dL_law_1352 : decode cL_law 1352 = .ok (.istore 6, 2) := dk_54 6 (dk_at dksL_law_47 0 rfl rfl)
theorem dL_law_1354 : decode cL_law 1354 = .ok (.aload_n 2, 1) := dk_44 (dk_at dksL_law_47 2 rfl rfl)
theorem dL_law_1355 : decode cL_law 1355 = .ok (.aload_n 0, 1) := dk_42 (dk_at dksL_law_47 3 rfl rfl)
theorem dL_law_1356 : decode cL_law 1356 = .ok (.iload 5, 2) := dk_21 5 (dk_at dksL_law_47 4 rfl rfl)
theorem dL_law_1358 : decode cL_law 1358 = .ok (.iconst 1, 1) := dk_4 (dk_at dksL_law_47 6 rfl rfl)
theorem dL_law_1359 : decode cL_law 1359 = .ok (.iadd, 1) := dk_96 (dk_at dksL_law_47 7 rfl rfl)
theorem dL_law_1360 : decode cL_law 1360 = .ok (.iaload, 1) := dk_46 (dk_at dksL_law_47 8 rfl rfl)
theorem dL_law_1361 : decode cL_law 1361 = .ok (.aload_n 0, 1) := dk_42 (dk_at dksL_law_47 9 rfl rfl)
theorem dL_law_1362 : decode cL_law 1362 = .ok (.iload 5, 2) := dk_21 5 (dk_at dksL_law_47 10 rfl rfl)
theorem dL_law_1364 : decode cL_law 1364 = .ok (.iconst 2, 1) := dk_5 (dk_at dksL_law_47 12 rfl rfl)
theorem dL_law_1365 : decode cL_law 1365 = .ok (.iadd, 1) := dk_96 (dk_at dksL_law_47 13 rfl rfl)
theorem dL_law_1366 : decode cL_law 1366 = .ok (.iaload, 1) := dk_46 (dk_at dksL_law_47 14 rfl rfl)
theorem dL_law_1367 : decode cL_law 1367 = .ok (.aload_n 0, 1) := dk_42 (dk_at dksL_law_47 15 rfl rfl)
theorem dL_law_1368 : decode cL_law 1368 = .ok (.iload 5, 2) := dk_21 5 (dk_at dksL_law_47 16 rfl rfl)
theorem dL_law_1370 : decode cL_law 1370 = .ok (.iconst 3, 1) := dk_6 (dk_at dksL_law_47 18 rfl rfl)
theorem dL_law_1371 : decode cL_law 1371 = .ok (.iadd, 1) := dk_96 (dk_at dksL_law_47 19 rfl rfl)
theorem dL_law_1372 : decode cL_law 1372 = .ok (.iaload, 1) := dk_46 (dk_at dksL_law_47 20 rfl rfl)
theorem dL_law_1373 : decode cL_law 1373 = .ok (.aload_n 0, 1) := dk_42 (dk_at dksL_law_47 21 rfl rfl)
theorem dL_law_1374 : decode cL_law 1374 = .ok (.iload 5, 2) := dk_21 5 (dk_at dksL_law_47 22 rfl rfl)
theorem dL_law_1376 : decode cL_law 1376 = .ok (.iconst 4, 1) := dk_7 (dk_at dksL_law_48 0 rfl rfl)
theorem dL_law_1377 : decode cL_law 1377 = .ok (.iadd, 1) := dk_96 (dk_at dksL_law_48 1 rfl rfl)
theorem dL_law_1378 : decode cL_law 1378 = .ok (.iaload, 1) := dk_46 (dk_at dksL_law_48 2 rfl rfl)
theorem dL_law_1379 : decode cL_law 1379 = .ok (.invokevirtual 271, 3) := dk_182 1 15 (dk_at dksL_law_48 3 rfl rfl)
theorem dL_law_1382 : decode cL_law 1382 = .ok (.istore 7, 2) := dk_54 7 (dk_at dksL_law_48 6 rfl rfl)
theorem dL_law_1384 : decode cL_law 1384 = .ok (.aload_n 2, 1) := dk_44 (dk_at dksL_law_48 8 rfl rfl)
theorem dL_law_1385 : decode cL_law 1385 = .ok (.invokevirtual 216, 3) := dk_182 0 216 (dk_at dksL_law_48 9 rfl rfl)
theorem dL_law_1388 : decode cL_law 1388 = .ok (.iload 6, 2) := dk_21 6 (dk_at dksL_law_48 12 rfl rfl)
theorem dL_law_1390 : decode cL_law 1390 = .ok (.if_icmp .eq 5, 3) := dk_159 0 5 (dk_at dksL_law_48 14 rfl rfl)
theorem dL_law_1393 : decode cL_law 1393 = .ok (.iconst 0, 1) := dk_3 (dk_at dksL_law_48 17 rfl rfl)
theorem dL_law_1394 : decode cL_law 1394 = .ok (.ireturn, 1) := dk_172 (dk_at dksL_law_48 18 rfl rfl)
theorem dL_law_1395 : decode cL_law 1395 = .ok (.iload 6, 2) := dk_21 6 (dk_at dksL_law_48 19 rfl rfl)
theorem dL_law_1397 : decode cL_law 1397 = .ok (.ifCond .ne 15, 3) := dk_154 0 15 (dk_at dksL_law_48 21 rfl rfl)
theorem dL_law_1400 : decode cL_law 1400 = .ok (.aload_n 3, 1) := dk_45 (dk_at dksL_law_49 0 rfl rfl)
theorem dL_law_1401 : decode cL_law 1401 = .ok (.iconst 0, 1) := dk_3 (dk_at dksL_law_49 1 rfl rfl)
theorem dL_law_1402 : decode cL_law 1402 = .ok (.laload, 1) := dk_47 (dk_at dksL_law_49 2 rfl rfl)
theorem dL_law_1403 : decode cL_law 1403 = .ok (.iload 7, 2) := dk_21 7 (dk_at dksL_law_49 3 rfl rfl)
theorem dL_law_1405 : decode cL_law 1405 = .ok (.i2l, 1) := dk_133 (dk_at dksL_law_49 5 rfl rfl)
theorem dL_law_1406 : decode cL_law 1406 = .ok (.lcmp, 1) := dk_148 (dk_at dksL_law_49 6 rfl rfl)
theorem dL_law_1407 : decode cL_law 1407 = .ok (.ifCond .eq 5, 3) := dk_153 0 5 (dk_at dksL_law_49 7 rfl rfl)
theorem dL_law_1410 : decode cL_law 1410 = .ok (.iconst 0, 1) := dk_3 (dk_at dksL_law_49 10 rfl rfl)
theorem dL_law_1411 : decode cL_law 1411 = .ok (.ireturn, 1) := dk_172 (dk_at dksL_law_49 11 rfl rfl)
theorem dL_law_1412 : decode cL_law 1412 = .ok (.goto 2774, 3) := dk_167 10 214 (dk_at dksL_law_49 12 rfl rfl)
theorem dL_law_1415 : decode cL_law 1415 = .ok (.aload_n 1, 1) := dk_43 (dk_at dksL_law_49 15 rfl rfl)
theorem dL_law_1416 : decode cL_law 1416 = .ok (.aload_n 0, 1) := dk_42 (dk_at dksL_law_49 16 rfl rfl)
theorem dL_law_1417 : decode cL_law 1417 = .ok (.iload 5, 2) := dk_21 5 (dk_at dksL_law_49 17 rfl rfl)
theorem dL_law_1419 : decode cL_law 1419 = .ok (.iconst 1, 1) := dk_4 (dk_at dksL_law_49 19 rfl rfl)
theorem dL_law_1420 : decode cL_law 1420 = .ok (.iadd, 1) := dk_96 (dk_at dksL_law_49 20 rfl rfl)
theorem dL_law_1421 : decode cL_law 1421 = .ok (.iaload, 1) := dk_46 (dk_at dksL_law_49 21 rfl rfl)
theorem dL_law_1422 : decode cL_law 1422 = .ok (.aload_n 0, 1) := dk_42 (dk_at dksL_law_49 22 rfl rfl)
theorem dL_law_1423 : decode cL_law 1423 = .ok (.iload 5, 2) := dk_21 5 (dk_at dksL_law_50 0 rfl rfl)
theorem dL_law_1425 : decode cL_law 1425 = .ok (.iconst 2, 1) := dk_5 (dk_at dksL_law_50 2 rfl rfl)
theorem dL_law_1426 : decode cL_law 1426 = .ok (.iadd, 1) := dk_96 (dk_at dksL_law_50 3 rfl rfl)
theorem dL_law_1427 : decode cL_law 1427 = .ok (.iaload, 1) := dk_46 (dk_at dksL_law_50 4 rfl rfl)
theorem dL_law_1428 : decode cL_law 1428 = .ok (.aload_n 0, 1) := dk_42 (dk_at dksL_law_50 5 rfl rfl)
theorem dL_law_1429 : decode cL_law 1429 = .ok (.iload 5, 2) := dk_21 5 (dk_at dksL_law_50 6 rfl rfl)
theorem dL_law_1431 : decode cL_law 1431 = .ok (.iconst 3, 1) := dk_6 (dk_at dksL_law_50 8 rfl rfl)
theorem dL_law_1432 : decode cL_law 1432 = .ok (.iadd, 1) := dk_96 (dk_at dksL_law_50 9 rfl rfl)
theorem dL_law_1433 : decode cL_law 1433 = .ok (.iaload, 1) := dk_46 (dk_at dksL_law_50 10 rfl rfl)
theorem dL_law_1434 : decode cL_law 1434 = .ok (.aload_n 3, 1) := dk_45 (dk_at dksL_law_50 11 rfl rfl)
theorem dL_law_1435 : decode cL_law 1435 = .ok (.invokestatic 272, 3) := dk_184 1 16 (dk_at dksL_law_50 12 rfl rfl)
theorem dL_law_1438 : decode cL_law 1438 = .ok (.istore 6, 2) := dk_54 6 (dk_at dksL_law_50 15 rfl rfl)
theorem dL_law_1440 : decode cL_law 1440 = .ok (.aload_n 2, 1) := dk_44 (dk_at dksL_law_50 17 rfl rfl)
theorem dL_law_1441 : decode cL_law 1441 = .ok (.aload_n 0, 1) := dk_42 (dk_at dksL_law_50 18 rfl rfl)
theorem dL_law_1442 : decode cL_law 1442 = .ok (.iload 5, 2) := dk_21 5 (dk_at dksL_law_50 19 rfl rfl)
theorem dL_law_1444 : decode cL_law 1444 = .ok (.iconst 1, 1) := dk_4 (dk_at dksL_law_50 21 rfl rfl)
theorem dL_law_1445 : decode cL_law 1445 = .ok (.iadd, 1) := dk_96 (dk_at dksL_law_50 22 rfl rfl)
theorem dL_law_1446 : decode cL_law 1446 = .ok (.iaload, 1) := dk_46 (dk_at dksL_law_50 23 rfl rfl)
theorem dL_law_1447 : decode cL_law 1447 = .ok (.aload_n 0, 1) := dk_42 (dk_at dksL_law_51 0 rfl rfl)
theorem dL_law_1448 : decode cL_law 1448 = .ok (.iload 5, 2) := dk_21 5 (dk_at dksL_law_51 1 rfl rfl)
theorem dL_law_1450 : decode cL_law 1450 = .ok (.iconst 2, 1) := dk_5 (dk_at dksL_law_51 3 rfl rfl)
theorem dL_law_1451 : decode cL_law 1451 = .ok (.iadd, 1) := dk_96 (dk_at dksL_law_51 4 rfl rfl)
theorem dL_law_1452 : decode cL_law 1452 = .ok (.iaload, 1) := dk_46 (dk_at dksL_law_51 5 rfl rfl)
theorem dL_law_1453 : decode cL_law 1453 = .ok (.aload_n 0, 1) := dk_42 (dk_at dksL_law_51 6 rfl rfl)
theorem dL_law_1454 : decode cL_law 1454 = .ok (.iload 5, 2) := dk_21 5 (dk_at dksL_law_51 7 rfl rfl)
theorem dL_law_1456 : decode cL_law 1456 = .ok (.iconst 3, 1) := dk_6 (dk_at dksL_law_51 9 rfl rfl)
theorem dL_law_1457 : decode cL_law 1457 = .ok (.iadd, 1) := dk_96 (dk_at dksL_law_51 10 rfl rfl)
theorem dL_law_1458 : decode cL_law 1458 = .ok (.iaload, 1) := dk_46 (dk_at dksL_law_51 11 rfl rfl)
theorem dL_law_1459 : decode cL_law 1459 = .ok (.invokevirtual 274, 3) := dk_182 1 18 (dk_at dksL_law_51 12 rfl rfl)
theorem dL_law_1462 : decode cL_law 1462 = .ok (.istore 7, 2) := dk_54 7 (dk_at dksL_law_51 15 rfl rfl)
theorem dL_law_1464 : decode cL_law 1464 = .ok (.aload_n 2, 1) := dk_44 (dk_at dksL_law_51 17 rfl rfl)
theorem dL_law_1465 : decode cL_law 1465 = .ok (.invokevirtual 216, 3) := dk_182 0 216 (dk_at dksL_law_51 18 rfl rfl)
theorem dL_law_1468 : decode cL_law 1468 = .ok (.iload 6, 2) := dk_21 6 (dk_at dksL_law_51 21 rfl rfl)
theorem dL_law_1470 : decode cL_law 1470 = .ok (.if_icmp .eq 5, 3) := dk_159 0 5 (dk_at dksL_law_52 0 rfl rfl)
theorem dL_law_1473 : decode cL_law 1473 = .ok (.iconst 0, 1) := dk_3 (dk_at dksL_law_52 3 rfl rfl)
theorem dL_law_1474 : decode cL_law 1474 = .ok (.ireturn, 1) := dk_172 (dk_at dksL_law_52 4 rfl rfl)
theorem dL_law_1475 : decode cL_law 1475 = .ok (.iload 6, 2) := dk_21 6 (dk_at dksL_law_52 5 rfl rfl)
theorem dL_law_1477 : decode cL_law 1477 = .ok (.ifCond .ne 15, 3) := dk_154 0 15 (dk_at dksL_law_52 7 rfl rfl)
theorem dL_law_1480 : decode cL_law 1480 = .ok (.aload_n 3, 1) := dk_45 (dk_at dksL_law_52 10 rfl rfl)
theorem dL_law_1481 : decode cL_law 1481 = .ok (.iconst 0, 1) := dk_3 (dk_at dksL_law_52 11 rfl rfl)
theorem dL_law_1482 : decode cL_law 1482 = .ok (.laload, 1) := dk_47 (dk_at dksL_law_52 12 rfl rfl)
theorem dL_law_1483 : decode cL_law 1483 = .ok (.iload 7, 2) := dk_21 7 (dk_at dksL_law_52 13 rfl rfl)
theorem dL_law_1485 : decode cL_law 1485 = .ok (.i2l, 1) := dk_133 (dk_at dksL_law_52 15 rfl rfl)
theorem dL_law_1486 : decode cL_law 1486 = .ok (.lcmp, 1) := dk_148 (dk_at dksL_law_52 16 rfl rfl)
theorem dL_law_1487 : decode cL_law 1487 = .ok (.ifCond .eq 5, 3) := dk_153 0 5 (dk_at dksL_law_52 17 rfl rfl)
theorem dL_law_1490 : decode cL_law 1490 = .ok (.iconst 0, 1) := dk_3 (dk_at dksL_law_52 20 rfl rfl)
theorem dL_law_1491 : decode cL_law 1491 = .ok (.ireturn, 1) := dk_172 (dk_at dksL_law_52 21 rfl rfl)
theorem dL_law_1492 : decode cL_law 1492 = .ok (.goto 2694, 3) := dk_167 10 134 (dk_at dksL_law_53 0 rfl rfl)
theorem dL_law_1495 : decode cL_law 1495 = .ok (.aload_n 1, 1) := dk_43 (dk_at dksL_law_53 3 rfl rfl)
theorem dL_law_1496 : decode cL_law 1496 = .ok (.aload_n 0, 1) := dk_42 (dk_at dksL_law_53 4 rfl rfl)
theorem dL_law_1497 : decode cL_law 1497 = .ok (.iload 5, 2) := dk_21 5 (dk_at dksL_law_53 5 rfl rfl)
theorem dL_law_1499 : decode cL_law 1499 = .ok (.iconst 1, 1) := dk_4 (dk_at dksL_law_53 7 rfl rfl)
theorem dL_law_1500 : decode cL_law 1500 = .ok (.iadd, 1) := dk_96 (dk_at dksL_law_53 8 rfl rfl)
theorem dL_law_1501 : decode cL_law 1501 = .ok (.iaload, 1) := dk_46 (dk_at dksL_law_53 9 rfl rfl)
theorem dL_law_1502 : decode cL_law 1502 = .ok (.aload_n 0, 1) := dk_42 (dk_at dksL_law_53 10 rfl rfl)
theorem dL_law_1503 : decode cL_law 1503 = .ok (.iload 5, 2) := dk_21 5 (dk_at dksL_law_53 11 rfl rfl)
theorem dL_law_1505 : decode cL_law 1505 = .ok (.iconst 2, 1) := dk_5 (dk_at dksL_law_53 13 rfl rfl)
theorem dL_law_1506 : decode cL_law 1506 = .ok (.iadd, 1) := dk_96 (dk_at dksL_law_53 14 rfl rfl)
theorem dL_law_1507 : decode cL_law 1507 = .ok (.iaload, 1) := dk_46 (dk_at dksL_law_53 15 rfl rfl)
theorem dL_law_1508 : decode cL_law 1508 = .ok (.aload_n 3, 1) := dk_45 (dk_at dksL_law_53 16 rfl rfl)
theorem dL_law_1509 : decode cL_law 1509 = .ok (.invokestatic 275, 3) := dk_184 1 19 (dk_at dksL_law_53 17 rfl rfl)
theorem dL_law_1512 : decode cL_law 1512 = .ok (.istore 6, 2) := dk_54 6 (dk_at dksL_law_53 20 rfl rfl)
theorem dL_law_1514 : decode cL_law 1514 = .ok (.aload_n 2, 1) := dk_44 (dk_at dksL_law_53 22 rfl rfl)
theorem dL_law_1515 : decode cL_law 1515 = .ok (.aload_n 0, 1) := dk_42 (dk_at dksL_law_53 23 rfl rfl)
theorem dL_law_1516 : decode cL_law 1516 = .ok (.iload 5, 2) := dk_21 5 (dk_at dksL_law_54 0 rfl rfl)
theorem dL_law_1518 : decode cL_law 1518 = .ok (.iconst 1, 1) := dk_4 (dk_at dksL_law_54 2 rfl rfl)
theorem dL_law_1519 : decode cL_law 1519 = .ok (.iadd, 1) := dk_96 (dk_at dksL_law_54 3 rfl rfl)
theorem dL_law_1520 : decode cL_law 1520 = .ok (.iaload, 1) := dk_46 (dk_at dksL_law_54 4 rfl rfl)
theorem dL_law_1521 : decode cL_law 1521 = .ok (.aload_n 0, 1) := dk_42 (dk_at dksL_law_54 5 rfl rfl)
theorem dL_law_1522 : decode cL_law 1522 = .ok (.iload 5, 2) := dk_21 5 (dk_at dksL_law_54 6 rfl rfl)
theorem dL_law_1524 : decode cL_law 1524 = .ok (.iconst 2, 1) := dk_5 (dk_at dksL_law_54 8 rfl rfl)
theorem dL_law_1525 : decode cL_law 1525 = .ok (.iadd, 1) := dk_96 (dk_at dksL_law_54 9 rfl rfl)
theorem dL_law_1526 : decode cL_law 1526 = .ok (.iaload, 1) := dk_46 (dk_at dksL_law_54 10 rfl rfl)
theorem dL_law_1527 : decode cL_law 1527 = .ok (.invokevirtual 277, 3) := dk_182 1 21 (dk_at dksL_law_54 11 rfl rfl)
theorem dL_law_1530 : decode cL_law 1530 = .ok (.istore 7, 2) := dk_54 7 (dk_at dksL_law_54 14 rfl rfl)
theorem dL_law_1532 : decode cL_law 1532 = .ok (.aload_n 2, 1) := dk_44 (dk_at dksL_law_54 16 rfl rfl)
theorem dL_law_1533 : decode cL_law 1533 = .ok (.invokevirtual 216, 3) := dk_182 0 216 (dk_at dksL_law_54 17 rfl rfl)
theorem dL_law_1536 : decode cL_law 1536 = .ok (.iload 6, 2) := dk_21 6 (dk_at dksL_law_54 20 rfl rfl)
theorem dL_law_1538 : decode cL_law 1538 = .ok (.if_icmp .eq 5, 3) := dk_159 0 5 (dk_at dksL_law_55 0 rfl rfl)
theorem dL_law_1541 : decode cL_law 1541 = .ok (.iconst 0, 1) := dk_3 (dk_at dksL_law_55 3 rfl rfl)
theorem dL_law_1542 : decode cL_law 1542 = .ok (.ireturn, 1) := dk_172 (dk_at dksL_law_55 4 rfl rfl)
theorem dL_law_1543 : decode cL_law 1543 = .ok (.iload 6, 2) := dk_21 6 (dk_at dksL_law_55 5 rfl rfl)
theorem dL_law_1545 : decode cL_law 1545 = .ok (.ifCond .ne 15, 3) := dk_154 0 15 (dk_at dksL_law_55 7 rfl rfl)
theorem dL_law_1548 : decode cL_law 1548 = .ok (.aload_n 3, 1) := dk_45 (dk_at dksL_law_55 10 rfl rfl)
theorem dL_law_1549 : decode cL_law 1549 = .ok (.iconst 0, 1) := dk_3 (dk_at dksL_law_55 11 rfl rfl)
theorem dL_law_1550 : decode cL_law 1550 = .ok (.laload, 1) := dk_47 (dk_at dksL_law_55 12 rfl rfl)
theorem dL_law_1551 : decode cL_law 1551 = .ok (.iload 7, 2) := dk_21 7 (dk_at dksL_law_55 13 rfl rfl)
theorem dL_law_1553 : decode cL_law 1553 = .ok (.i2l, 1) := dk_133 (dk_at dksL_law_55 15 rfl rfl)
theorem dL_law_1554 : decode cL_law 1554 = .ok (.lcmp, 1) := dk_148 (dk_at dksL_law_55 16 rfl rfl)
theorem dL_law_1555 : decode cL_law 1555 = .ok (.ifCond .eq 5, 3) := dk_153 0 5 (dk_at dksL_law_55 17 rfl rfl)
theorem dL_law_1558 : decode cL_law 1558 = .ok (.iconst 0, 1) := dk_3 (dk_at dksL_law_55 20 rfl rfl)
theorem dL_law_1559 : decode cL_law 1559 = .ok (.ireturn, 1) := dk_172 (dk_at dksL_law_55 21 rfl rfl)
theorem dL_law_1560 : decode cL_law 1560 = .ok (.goto 2626, 3) := dk_167 10 66 (dk_at dksL_law_56 0 rfl rfl)
theorem dL_law_1563 : decode cL_law 1563 = .ok (.aload_n 1, 1) := dk_43 (dk_at dksL_law_56 3 rfl rfl)
theorem dL_law_1564 : decode cL_law 1564 = .ok (.aload_n 0, 1) := dk_42 (dk_at dksL_law_56 4 rfl rfl)
theorem dL_law_1565 : decode cL_law 1565 = .ok (.iload 5, 2) := dk_21 5 (dk_at dksL_law_56 5 rfl rfl)
theorem dL_law_1567 : decode cL_law 1567 = .ok (.iconst 1, 1) := dk_4 (dk_at dksL_law_56 7 rfl rfl)
theorem dL_law_1568 : decode cL_law 1568 = .ok (.iadd, 1) := dk_96 (dk_at dksL_law_56 8 rfl rfl)
theorem dL_law_1569 : decode cL_law 1569 = .ok (.iaload, 1) := dk_46 (dk_at dksL_law_56 9 rfl rfl)
theorem dL_law_1570 : decode cL_law 1570 = .ok (.aload_n 0, 1) := dk_42 (dk_at dksL_law_56 10 rfl rfl)
theorem dL_law_1571 : decode cL_law 1571 = .ok (.iload 5, 2) := dk_21 5 (dk_at dksL_law_56 11 rfl rfl)
theorem dL_law_1573 : decode cL_law 1573 = .ok (.iconst 2, 1) := dk_5 (dk_at dksL_law_56 13 rfl rfl)
theorem dL_law_1574 : decode cL_law 1574 = .ok (.iadd, 1) := dk_96 (dk_at dksL_law_56 14 rfl rfl)
theorem dL_law_1575 : decode cL_law 1575 = .ok (.iaload, 1) := dk_46 (dk_at dksL_law_56 15 rfl rfl)
theorem dL_law_1576 : decode cL_law 1576 = .ok (.aload_n 3, 1) := dk_45 (dk_at dksL_law_56 16 rfl rfl)
theorem dL_law_1577 : decode cL_law 1577 = .ok (.invokestatic 278, 3) := dk_184 1 22 (dk_at dksL_law_56 17 rfl rfl)
theorem dL_law_1580 : decode cL_law 1580 = .ok (.istore 6, 2) := dk_54 6 (dk_at dksL_law_56 20 rfl rfl)
theorem dL_law_1582 : decode cL_law 1582 = .ok (.aload_n 2, 1) := dk_44 (dk_at dksL_law_56 22 rfl rfl)
theorem dL_law_1583 : decode cL_law 1583 = .ok (.aload_n 0, 1) := dk_42 (dk_at dksL_law_56 23 rfl rfl)
theorem dL_law_1584 : decode cL_law 1584 = .ok (.iload 5, 2) := dk_21 5 (dk_at dksL_law_57 0 rfl rfl)
theorem dL_law_1586 : decode cL_law 1586 = .ok (.iconst 1, 1) := dk_4 (dk_at dksL_law_57 2 rfl rfl)
theorem dL_law_1587 : decode cL_law 1587 = .ok (.iadd, 1) := dk_96 (dk_at dksL_law_57 3 rfl rfl)
theorem dL_law_1588 : decode cL_law 1588 = .ok (.iaload, 1) := dk_46 (dk_at dksL_law_57 4 rfl rfl)
theorem dL_law_1589 : decode cL_law 1589 = .ok (.aload_n 0, 1) := dk_42 (dk_at dksL_law_57 5 rfl rfl)
theorem dL_law_1590 : decode cL_law 1590 = .ok (.iload 5, 2) := dk_21 5 (dk_at dksL_law_57 6 rfl rfl)
theorem dL_law_1592 : decode cL_law 1592 = .ok (.iconst 2, 1) := dk_5 (dk_at dksL_law_57 8 rfl rfl)
theorem dL_law_1593 : decode cL_law 1593 = .ok (.iadd, 1) := dk_96 (dk_at dksL_law_57 9 rfl rfl)
theorem dL_law_1594 : decode cL_law 1594 = .ok (.iaload, 1) := dk_46 (dk_at dksL_law_57 10 rfl rfl)
theorem dL_law_1595 : decode cL_law 1595 = .ok (.invokevirtual 280, 3) := dk_182 1 24 (dk_at dksL_law_57 11 rfl rfl)
theorem dL_law_1598 : decode cL_law 1598 = .ok (.istore 7, 2) := dk_54 7 (dk_at dksL_law_57 14 rfl rfl)
theorem dL_law_1600 : decode cL_law 1600 = .ok (.aload_n 2, 1) := dk_44 (dk_at dksL_law_57 16 rfl rfl)
theorem dL_law_1601 : decode cL_law 1601 = .ok (.invokevirtual 216, 3) := dk_182 0 216 (dk_at dksL_law_57 17 rfl rfl)
theorem dL_law_1604 : decode cL_law 1604 = .ok (.iload 6, 2) := dk_21 6 (dk_at dksL_law_57 20 rfl rfl)
theorem dL_law_1606 : decode cL_law 1606 = .ok (.if_icmp .eq 5, 3) := dk_159 0 5 (dk_at dksL_law_58 0 rfl rfl)
theorem dL_law_1609 : decode cL_law 1609 = .ok (.iconst 0, 1) := dk_3 (dk_at dksL_law_58 3 rfl rfl)
theorem dL_law_1610 : decode cL_law 1610 = .ok (.ireturn, 1) := dk_172 (dk_at dksL_law_58 4 rfl rfl)
theorem dL_law_1611 : decode cL_law 1611 = .ok (.iload 6, 2) := dk_21 6 (dk_at dksL_law_58 5 rfl rfl)
theorem dL_law_1613 : decode cL_law 1613 = .ok (.ifCond .ne 15, 3) := dk_154 0 15 (dk_at dksL_law_58 7 rfl rfl)
theorem dL_law_1616 : decode cL_law 1616 = .ok (.aload_n 3, 1) := dk_45 (dk_at dksL_law_58 10 rfl rfl)
theorem dL_law_1617 : decode cL_law 1617 = .ok (.iconst 0, 1) := dk_3 (dk_at dksL_law_58 11 rfl rfl)
theorem dL_law_1618 : decode cL_law 1618 = .ok (.laload, 1) := dk_47 (dk_at dksL_law_58 12 rfl rfl)
theorem dL_law_1619 : decode cL_law 1619 = .ok (.iload 7, 2) := dk_21 7 (dk_at dksL_law_58 13 rfl rfl)
theorem dL_law_1621 : decode cL_law 1621 = .ok (.i2l, 1) := dk_133 (dk_at dksL_law_58 15 rfl rfl)
theorem dL_law_1622 : decode cL_law 1622 = .ok (.lcmp, 1) := dk_148 (dk_at dksL_law_58 16 rfl rfl)
theorem dL_law_1623 : decode cL_law 1623 = .ok (.ifCond .eq 5, 3) := dk_153 0 5 (dk_at dksL_law_58 17 rfl rfl)
theorem dL_law_1626 : decode cL_law 1626 = .ok (.iconst 0, 1) := dk_3 (dk_at dksL_law_58 20 rfl rfl)
theorem dL_law_1627 : decode cL_law 1627 = .ok (.ireturn, 1) := dk_172 (dk_at dksL_law_58 21 rfl rfl)
theorem dL_law_1628 : decode cL_law 1628 = .ok (.goto 2558, 3) := dk_167 9 254 (dk_at dksL_law_59 0 rfl rfl)
theorem dL_law_1631 : decode cL_law 1631 = .ok (.aload_n 1, 1) := dk_43 (dk_at dksL_law_59 3 rfl rfl)
theorem dL_law_1632 : decode cL_law 1632 = .ok (.aload_n 0, 1) := dk_42 (dk_at dksL_law_59 4 rfl rfl)
theorem dL_law_1633 : decode cL_law 1633 = .ok (.iload 5, 2) := dk_21 5 (dk_at dksL_law_59 5 rfl rfl)
theorem dL_law_1635 : decode cL_law 1635 = .ok (.iconst 1, 1) := dk_4 (dk_at dksL_law_59 7 rfl rfl)
theorem dL_law_1636 : decode cL_law 1636 = .ok (.iadd, 1) := dk_96 (dk_at dksL_law_59 8 rfl rfl)
theorem dL_law_1637 : decode cL_law 1637 = .ok (.iaload, 1) := dk_46 (dk_at dksL_law_59 9 rfl rfl)
theorem dL_law_1638 : decode cL_law 1638 = .ok (.aload_n 0, 1) := dk_42 (dk_at dksL_law_59 10 rfl rfl)
theorem dL_law_1639 : decode cL_law 1639 = .ok (.iload 5, 2) := dk_21 5 (dk_at dksL_law_59 11 rfl rfl)
theorem dL_law_1641 : decode cL_law 1641 = .ok (.iconst 2, 1) := dk_5 (dk_at dksL_law_59 13 rfl rfl)
theorem dL_law_1642 : decode cL_law 1642 = .ok (.iadd, 1) := dk_96 (dk_at dksL_law_59 14 rfl rfl)
theorem dL_law_1643 : decode cL_law 1643 = .ok (.iaload, 1) := dk_46 (dk_at dksL_law_59 15 rfl rfl)
theorem dL_law_1644 : decode cL_law 1644 = .ok (.aload_n 3, 1) := dk_45 (dk_at dksL_law_59 16 rfl rfl)
theorem dL_law_1645 : decode cL_law 1645 = .ok (.invokestatic 281, 3) := dk_184 1 25 (dk_at dksL_law_59 17 rfl rfl)
theorem dL_law_1648 : decode cL_law 1648 = .ok (.istore 6, 2) := dk_54 6 (dk_at dksL_law_59 20 rfl rfl)
theorem dL_law_1650 : decode cL_law 1650 = .ok (.aload_n 2, 1) := dk_44 (dk_at dksL_law_59 22 rfl rfl)
theorem dL_law_1651 : decode cL_law 1651 = .ok (.aload_n 0, 1) := dk_42 (dk_at dksL_law_59 23 rfl rfl)
theorem dL_law_1652 : decode cL_law 1652 = .ok (.iload 5, 2) := dk_21 5 (dk_at dksL_law_60 0 rfl rfl)
theorem dL_law_1654 : decode cL_law 1654 = .ok (.iconst 1, 1) := dk_4 (dk_at dksL_law_60 2 rfl rfl)
theorem dL_law_1655 : decode cL_law 1655 = .ok (.iadd, 1) := dk_96 (dk_at dksL_law_60 3 rfl rfl)
theorem dL_law_1656 : decode cL_law 1656 = .ok (.iaload, 1) := dk_46 (dk_at dksL_law_60 4 rfl rfl)
theorem dL_law_1657 : decode cL_law 1657 = .ok (.aload_n 0, 1) := dk_42 (dk_at dksL_law_60 5 rfl rfl)
theorem dL_law_1658 : decode cL_law 1658 = .ok (.iload 5, 2) := dk_21 5 (dk_at dksL_law_60 6 rfl rfl)
theorem dL_law_1660 : decode cL_law 1660 = .ok (.iconst 2, 1) := dk_5 (dk_at dksL_law_60 8 rfl rfl)
theorem dL_law_1661 : decode cL_law 1661 = .ok (.iadd, 1) := dk_96 (dk_at dksL_law_60 9 rfl rfl)
theorem dL_law_1662 : decode cL_law 1662 = .ok (.iaload, 1) := dk_46 (dk_at dksL_law_60 10 rfl rfl)
theorem dL_law_1663 : decode cL_law 1663 = .ok (.invokevirtual 283, 3) := dk_182 1 27 (dk_at dksL_law_60 11 rfl rfl)
theorem dL_law_1666 : decode cL_law 1666 = .ok (.istore 7, 2) := dk_54 7 (dk_at dksL_law_60 14 rfl rfl)
theorem dL_law_1668 : decode cL_law 1668 = .ok (.aload_n 2, 1) := dk_44 (dk_at dksL_law_60 16 rfl rfl)
theorem dL_law_1669 : decode cL_law 1669 = .ok (.invokevirtual 216, 3) := dk_182 0 216 (dk_at dksL_law_60 17 rfl rfl)
theorem dL_law_1672 : decode cL_law 1672 = .ok (.iload 6, 2) := dk_21 6 (dk_at dksL_law_60 20 rfl rfl)
theorem dL_law_1674 : decode cL_law 1674 = .ok (.if_icmp .eq 5, 3) := dk_159 0 5 (dk_at dksL_law_61 0 rfl rfl)
theorem dL_law_1677 : decode cL_law 1677 = .ok (.iconst 0, 1) := dk_3 (dk_at dksL_law_61 3 rfl rfl)
theorem dL_law_1678 : decode cL_law 1678 = .ok (.ireturn, 1) := dk_172 (dk_at dksL_law_61 4 rfl rfl)
theorem dL_law_1679 : decode cL_law 1679 = .ok (.iload 6, 2) := dk_21 6 (dk_at dksL_law_61 5 rfl rfl)
theorem dL_law_1681 : decode cL_law 1681 = .ok (.ifCond .ne 15, 3) := dk_154 0 15 (dk_at dksL_law_61 7 rfl rfl)
theorem dL_law_1684 : decode cL_law 1684 = .ok (.aload_n 3, 1) := dk_45 (dk_at dksL_law_61 10 rfl rfl)
theorem dL_law_1685 : decode cL_law 1685 = .ok (.iconst 0, 1) := dk_3 (dk_at dksL_law_61 11 rfl rfl)
theorem dL_law_1686 : decode cL_law 1686 = .ok (.laload, 1) := dk_47 (dk_at dksL_law_61 12 rfl rfl)
theorem dL_law_1687 : decode cL_law 1687 = .ok (.iload 7, 2) := dk_21 7 (dk_at dksL_law_61 13 rfl rfl)
theorem dL_law_1689 : decode cL_law 1689 = .ok (.i2l, 1) := dk_133 (dk_at dksL_law_61 15 rfl rfl)
theorem dL_law_1690 : decode cL_law 1690 = .ok (.lcmp, 1) := dk_148 (dk_at dksL_law_61 16 rfl rfl)
theorem dL_law_1691 : decode cL_law 1691 = .ok (.ifCond .eq 5, 3) := dk_153 0 5 (dk_at dksL_law_61 17 rfl rfl)
theorem dL_law_1694 : decode cL_law 1694 = .ok (.iconst 0, 1) := dk_3 (dk_at dksL_law_61 20 rfl rfl)
theorem dL_law_1695 : decode cL_law 1695 = .ok (.ireturn, 1) := dk_172 (dk_at dksL_law_61 21 rfl rfl)
theorem dL_law_1696 : decode cL_law 1696 = .ok (.goto 2490, 3) := dk_167 9 186 (dk_at dksL_law_62 0 rfl rfl)
theorem dL_law_1699 : decode cL_law 1699 = .ok (.aload_n 1, 1) := dk_43 (dk_at dksL_law_62 3 rfl rfl)
theorem dL_law_1700 : decode cL_law 1700 = .ok (.aload_n 0, 1) := dk_42 (dk_at dksL_law_62 4 rfl rfl)
theorem dL_law_1701 : decode cL_law 1701 = .ok (.iload 5, 2) := dk_21 5 (dk_at dksL_law_62 5 rfl rfl)
theorem dL_law_1703 : decode cL_law 1703 = .ok (.iconst 1, 1) := dk_4 (dk_at dksL_law_62 7 rfl rfl)
theorem dL_law_1704 : decode cL_law 1704 = .ok (.iadd, 1) := dk_96 (dk_at dksL_law_62 8 rfl rfl)
theorem dL_law_1705 : decode cL_law 1705 = .ok (.iaload, 1) := dk_46 (dk_at dksL_law_62 9 rfl rfl)
theorem dL_law_1706 : decode cL_law 1706 = .ok (.aload_n 3, 1) := dk_45 (dk_at dksL_law_62 10 rfl rfl)
theorem dL_law_1707 : decode cL_law 1707 = .ok (.invokestatic 284, 3) := dk_184 1 28 (dk_at dksL_law_62 11 rfl rfl)
theorem dL_law_1710 : decode cL_law 1710 = .ok (.istore 6, 2) := dk_54 6 (dk_at dksL_law_62 14 rfl rfl)
theorem dL_law_1712 : decode cL_law 1712 = .ok (.aload_n 2, 1) := dk_44 (dk_at dksL_law_62 16 rfl rfl)
theorem dL_law_1713 : decode cL_law 1713 = .ok (.aload_n 0, 1) := dk_42 (dk_at dksL_law_62 17 rfl rfl)
theorem dL_law_1714 : decode cL_law 1714 = .ok (.iload 5, 2) := dk_21 5 (dk_at dksL_law_62 18 rfl rfl)
theorem dL_law_1716 : decode cL_law 1716 = .ok (.iconst 1, 1) := dk_4 (dk_at dksL_law_62 20 rfl rfl)
theorem dL_law_1717 : decode cL_law 1717 = .ok (.iadd, 1) := dk_96 (dk_at dksL_law_62 21 rfl rfl)
theorem dL_law_1718 : decode cL_law 1718 = .ok (.iaload, 1) := dk_46 (dk_at dksL_law_62 22 rfl rfl)
theorem dL_law_1719 : decode cL_law 1719 = .ok (.invokevirtual 286, 3) := dk_182 1 30 (dk_at dksL_law_63 0 rfl rfl)
theorem dL_law_1722 : decode cL_law 1722 = .ok (.istore 7, 2) := dk_54 7 (dk_at dksL_law_63 3 rfl rfl)
theorem dL_law_1724 : decode cL_law 1724 = .ok (.aload_n 2, 1) := dk_44 (dk_at dksL_law_63 5 rfl rfl)
theorem dL_law_1725 : decode cL_law 1725 = .ok (.invokevirtual 216, 3) := dk_182 0 216 (dk_at dksL_law_63 6 rfl rfl)
theorem dL_law_1728 : decode cL_law 1728 = .ok (.iload 6, 2) := dk_21 6 (dk_at dksL_law_63 9 rfl rfl)
theorem dL_law_1730 : decode cL_law 1730 = .ok (.if_icmp .eq 5, 3) := dk_159 0 5 (dk_at dksL_law_63 11 rfl rfl)
theorem dL_law_1733 : decode cL_law 1733 = .ok (.iconst 0, 1) := dk_3 (dk_at dksL_law_63 14 rfl rfl)
theorem dL_law_1734 : decode cL_law 1734 = .ok (.ireturn, 1) := dk_172 (dk_at dksL_law_63 15 rfl rfl)
theorem dL_law_1735 : decode cL_law 1735 = .ok (.iload 6, 2) := dk_21 6 (dk_at dksL_law_63 16 rfl rfl)
theorem dL_law_1737 : decode cL_law 1737 = .ok (.ifCond .ne 15, 3) := dk_154 0 15 (dk_at dksL_law_63 18 rfl rfl)
theorem dL_law_1740 : decode cL_law 1740 = .ok (.aload_n 3, 1) := dk_45 (dk_at dksL_law_63 21 rfl rfl)
theorem dL_law_1741 : decode cL_law 1741 = .ok (.iconst 0, 1) := dk_3 (dk_at dksL_law_63 22 rfl rfl)
theorem dL_law_1742 : decode cL_law 1742 = .ok (.laload, 1) := dk_47 (dk_at dksL_law_63 23 rfl rfl)
theorem dL_law_1743 : decode cL_law 1743 = .ok (.iload 7, 2) := dk_21 7 (dk_at dksL_law_64 0 rfl rfl)
theorem dL_law_1745 : decode cL_law 1745 = .ok (.i2l, 1) := dk_133 (dk_at dksL_law_64 2 rfl rfl)
theorem dL_law_1746 : decode cL_law 1746 = .ok (.lcmp, 1) := dk_148 (dk_at dksL_law_64 3 rfl rfl)
theorem dL_law_1747 : decode cL_law 1747 = .ok (.ifCond .eq 5, 3) := dk_153 0 5 (dk_at dksL_law_64 4 rfl rfl)
theorem dL_law_1750 : decode cL_law 1750 = .ok (.iconst 0, 1) := dk_3 (dk_at dksL_law_64 7 rfl rfl)
theorem dL_law_1751 : decode cL_law 1751 = .ok (.ireturn, 1) := dk_172 (dk_at dksL_law_64 8 rfl rfl)
theorem dL_law_1752 : decode cL_law 1752 = .ok (.goto 2434, 3) := dk_167 9 130 (dk_at dksL_law_64 9 rfl rfl)
theorem dL_law_1755 : decode cL_law 1755 = .ok (.aload_n 1, 1) := dk_43 (dk_at dksL_law_64 12 rfl rfl)
theorem dL_law_1756 : decode cL_law 1756 = .ok (.aload_n 0, 1) := dk_42 (dk_at dksL_law_64 13 rfl rfl)
theorem dL_law_1757 : decode cL_law 1757 = .ok (.iload 5, 2) := dk_21 5 (dk_at dksL_law_64 14 rfl rfl)
theorem dL_law_1759 : decode cL_law 1759 = .ok (.iconst 1, 1) := dk_4 (dk_at dksL_law_64 16 rfl rfl)
theorem dL_law_1760 : decode cL_law 1760 = .ok (.iadd, 1) := dk_96 (dk_at dksL_law_64 17 rfl rfl)
theorem dL_law_1761 : decode cL_law 1761 = .ok (.iaload, 1) := dk_46 (dk_at dksL_law_64 18 rfl rfl)
theorem dL_law_1762 : decode cL_law 1762 = .ok (.aload_n 3, 1) := dk_45 (dk_at dksL_law_64 19 rfl rfl)
theorem dL_law_1763 : decode cL_law 1763 = .ok (.invokestatic 287, 3) := dk_184 1 31 (dk_at dksL_law_64 20 rfl rfl)
theorem dL_law_1766 : decode cL_law 1766 = .ok (.istore 6, 2) := dk_54 6 (dk_at dksL_law_65 0 rfl rfl)
theorem dL_law_1768 : decode cL_law 1768 = .ok (.aload_n 2, 1) := dk_44 (dk_at dksL_law_65 2 rfl rfl)
theorem dL_law_1769 : decode cL_law 1769 = .ok (.aload_n 0, 1) := dk_42 (dk_at dksL_law_65 3 rfl rfl)
theorem dL_law_1770 : decode cL_law 1770 = .ok (.iload 5, 2) := dk_21 5 (dk_at dksL_law_65 4 rfl rfl)
theorem dL_law_1772 : decode cL_law 1772 = .ok (.iconst 1, 1) := dk_4 (dk_at dksL_law_65 6 rfl rfl)
theorem dL_law_1773 : decode cL_law 1773 = .ok (.iadd, 1) := dk_96 (dk_at dksL_law_65 7 rfl rfl)
theorem dL_law_1774 : decode cL_law 1774 = .ok (.iaload, 1) := dk_46 (dk_at dksL_law_65 8 rfl rfl)
theorem dL_law_1775 : decode cL_law 1775 = .ok (.invokevirtual 289, 3) := dk_182 1 33 (dk_at dksL_law_65 9 rfl rfl)
theorem dL_law_1778 : decode cL_law 1778 = .ok (.istore 7, 2) := dk_54 7 (dk_at dksL_law_65 12 rfl rfl)
theorem dL_law_1780 : decode cL_law 1780 = .ok (.aload_n 2, 1) := dk_44 (dk_at dksL_law_65 14 rfl rfl)
theorem dL_law_1781 : decode cL_law 1781 = .ok (.invokevirtual 216, 3) := dk_182 0 216 (dk_at dksL_law_65 15 rfl rfl)
theorem dL_law_1784 : decode cL_law 1784 = .ok (.iload 6, 2) := dk_21 6 (dk_at dksL_law_65 18 rfl rfl)
theorem dL_law_1786 : decode cL_law 1786 = .ok (.if_icmp .eq 5, 3) := dk_159 0 5 (dk_at dksL_law_65 20 rfl rfl)
theorem dL_law_1789 : decode cL_law 1789 = .ok (.iconst 0, 1) := dk_3 (dk_at dksL_law_65 23 rfl rfl)
theorem dL_law_1790 : decode cL_law 1790 = .ok (.ireturn, 1) := dk_172 (dk_at dksL_law_66 0 rfl rfl)
theorem dL_law_1791 : decode cL_law 1791 = .ok (.iload 6, 2) := dk_21 6 (dk_at dksL_law_66 1 rfl rfl)
theorem dL_law_1793 : decode cL_law 1793 = .ok (.ifCond .ne 15, 3) := dk_154 0 15 (dk_at dksL_law_66 3 rfl rfl)
theorem dL_law_1796 : decode cL_law 1796 = .ok (.aload_n 3, 1) := dk_45 (dk_at dksL_law_66 6 rfl rfl)
theorem dL_law_1797 : decode cL_law 1797 = .ok (.iconst 0, 1) := dk_3 (dk_at dksL_law_66 7 rfl rfl)
theorem dL_law_1798 : decode cL_law 1798 = .ok (.laload, 1) := dk_47 (dk_at dksL_law_66 8 rfl rfl)
theorem dL_law_1799 : decode cL_law 1799 = .ok (.iload 7, 2) := dk_21 7 (dk_at dksL_law_66 9 rfl rfl)
theorem dL_law_1801 : decode cL_law 1801 = .ok (.i2l, 1) := dk_133 (dk_at dksL_law_66 11 rfl rfl)
theorem dL_law_1802 : decode cL_law 1802 = .ok (.lcmp, 1) := dk_148 (dk_at dksL_law_66 12 rfl rfl)
theorem dL_law_1803 : decode cL_law 1803 = .ok (.ifCond .eq 5, 3) := dk_153 0 5 (dk_at dksL_law_66 13 rfl rfl)
theorem dL_law_1806 : decode cL_law 1806 = .ok (.iconst 0, 1) := dk_3 (dk_at dksL_law_66 16 rfl rfl)
theorem dL_law_1807 : decode cL_law 1807 = .ok (.ireturn, 1) := dk_172 (dk_at dksL_law_66 17 rfl rfl)
theorem dL_law_1808 : decode cL_law 1808 = .ok (.goto 2378, 3) := dk_167 9 74 (dk_at dksL_law_66 18 rfl rfl)
theorem dL_law_1811 : decode cL_law 1811 = .ok (.aload_n 1, 1) := dk_43 (dk_at dksL_law_66 21 rfl rfl)
theorem dL_law_1812 : decode cL_law 1812 = .ok (.aload_n 0, 1) := dk_42 (dk_at dksL_law_66 22 rfl rfl)
theorem dL_law_1813 : decode cL_law 1813 = .ok (.iload 5, 2) := dk_21 5 (dk_at dksL_law_67 0 rfl rfl)
theorem dL_law_1815 : decode cL_law 1815 = .ok (.iconst 1, 1) := dk_4 (dk_at dksL_law_67 2 rfl rfl)
theorem dL_law_1816 : decode cL_law 1816 = .ok (.iadd, 1) := dk_96 (dk_at dksL_law_67 3 rfl rfl)
theorem dL_law_1817 : decode cL_law 1817 = .ok (.iaload, 1) := dk_46 (dk_at dksL_law_67 4 rfl rfl)
theorem dL_law_1818 : decode cL_law 1818 = .ok (.aload_n 3, 1) := dk_45 (dk_at dksL_law_67 5 rfl rfl)
theorem dL_law_1819 : decode cL_law 1819 = .ok (.invokestatic 290, 3) := dk_184 1 34 (dk_at dksL_law_67 6 rfl rfl)
theorem dL_law_1822 : decode cL_law 1822 = .ok (.istore 6, 2) := dk_54 6 (dk_at dksL_law_67 9 rfl rfl)
theorem dL_law_1824 : decode cL_law 1824 = .ok (.aload_n 2, 1) := dk_44 (dk_at dksL_law_67 11 rfl rfl)
theorem dL_law_1825 : decode cL_law 1825 = .ok (.aload_n 0, 1) := dk_42 (dk_at dksL_law_67 12 rfl rfl)
theorem dL_law_1826 : decode cL_law 1826 = .ok (.iload 5, 2) := dk_21 5 (dk_at dksL_law_67 13 rfl rfl)
theorem dL_law_1828 : decode cL_law 1828 = .ok (.iconst 1, 1) := dk_4 (dk_at dksL_law_67 15 rfl rfl)
theorem dL_law_1829 : decode cL_law 1829 = .ok (.iadd, 1) := dk_96 (dk_at dksL_law_67 16 rfl rfl)
theorem dL_law_1830 : decode cL_law 1830 = .ok (.iaload, 1) := dk_46 (dk_at dksL_law_67 17 rfl rfl)
theorem dL_law_1831 : decode cL_law 1831 = .ok (.invokevirtual 292, 3) := dk_182 1 36 (dk_at dksL_law_67 18 rfl rfl)
theorem dL_law_1834 : decode cL_law 1834 = .ok (.istore 7, 2) := dk_54 7 (dk_at dksL_law_67 21 rfl rfl)
theorem dL_law_1836 : decode cL_law 1836 = .ok (.aload_n 2, 1) := dk_44 (dk_at dksL_law_67 23 rfl rfl)
theorem dL_law_1837 : decode cL_law 1837 = .ok (.invokevirtual 216, 3) := dk_182 0 216 (dk_at dksL_law_68 0 rfl rfl)
theorem dL_law_1840 : decode cL_law 1840 = .ok (.iload 6, 2) := dk_21 6 (dk_at dksL_law_68 3 rfl rfl)
theorem dL_law_1842 : decode cL_law 1842 = .ok (.if_icmp .eq 5, 3) := dk_159 0 5 (dk_at dksL_law_68 5 rfl rfl)
theorem dL_law_1845 : decode cL_law 1845 = .ok (.iconst 0, 1) := dk_3 (dk_at dksL_law_68 8 rfl rfl)
theorem dL_law_1846 : decode cL_law 1846 = .ok (.ireturn, 1) := dk_172 (dk_at dksL_law_68 9 rfl rfl)
theorem dL_law_1847 : decode cL_law 1847 = .ok (.iload 6, 2) := dk_21 6 (dk_at dksL_law_68 10 rfl rfl)
theorem dL_law_1849 : decode cL_law 1849 = .ok (.ifCond .ne 15, 3) := dk_154 0 15 (dk_at dksL_law_68 12 rfl rfl)
theorem dL_law_1852 : decode cL_law 1852 = .ok (.aload_n 3, 1) := dk_45 (dk_at dksL_law_68 15 rfl rfl)
theorem dL_law_1853 : decode cL_law 1853 = .ok (.iconst 0, 1) := dk_3 (dk_at dksL_law_68 16 rfl rfl)
theorem dL_law_1854 : decode cL_law 1854 = .ok (.laload, 1) := dk_47 (dk_at dksL_law_68 17 rfl rfl)
theorem dL_law_1855 : decode cL_law 1855 = .ok (.iload 7, 2) := dk_21 7 (dk_at dksL_law_68 18 rfl rfl)
theorem dL_law_1857 : decode cL_law 1857 = .ok (.i2l, 1) := dk_133 (dk_at dksL_law_68 20 rfl rfl)
theorem dL_law_1858 : decode cL_law 1858 = .ok (.lcmp, 1) := dk_148 (dk_at dksL_law_68 21 rfl rfl)
theorem dL_law_1859 : decode cL_law 1859 = .ok (.ifCond .eq 5, 3) := dk_153 0 5 (dk_at dksL_law_69 0 rfl rfl)
theorem dL_law_1862 : decode cL_law 1862 = .ok (.iconst 0, 1) := dk_3 (dk_at dksL_law_69 3 rfl rfl)
theorem dL_law_1863 : decode cL_law 1863 = .ok (.ireturn, 1) := dk_172 (dk_at dksL_law_69 4 rfl rfl)
theorem dL_law_1864 : decode cL_law 1864 = .ok (.goto 2322, 3) := dk_167 9 18 (dk_at dksL_law_69 5 rfl rfl)
theorem dL_law_1867 : decode cL_law 1867 = .ok (.aload_n 1, 1) := dk_43 (dk_at dksL_law_69 8 rfl rfl)
theorem dL_law_1868 : decode cL_law 1868 = .ok (.aload_n 0, 1) := dk_42 (dk_at dksL_law_69 9 rfl rfl)
theorem dL_law_1869 : decode cL_law 1869 = .ok (.iload 5, 2) := dk_21 5 (dk_at dksL_law_69 10 rfl rfl)
theorem dL_law_1871 : decode cL_law 1871 = .ok (.iconst 1, 1) := dk_4 (dk_at dksL_law_69 12 rfl rfl)
theorem dL_law_1872 : decode cL_law 1872 = .ok (.iadd, 1) := dk_96 (dk_at dksL_law_69 13 rfl rfl)
theorem dL_law_1873 : decode cL_law 1873 = .ok (.iaload, 1) := dk_46 (dk_at dksL_law_69 14 rfl rfl)
theorem dL_law_1874 : decode cL_law 1874 = .ok (.aload_n 3, 1) := dk_45 (dk_at dksL_law_69 15 rfl rfl)
theorem dL_law_1875 : decode cL_law 1875 = .ok (.invokestatic 293, 3) := dk_184 1 37 (dk_at dksL_law_69 16 rfl rfl)
theorem dL_law_1878 : decode cL_law 1878 = .ok (.istore 6, 2) := dk_54 6 (dk_at dksL_law_69 19 rfl rfl)
theorem dL_law_1880 : decode cL_law 1880 = .ok (.aload_n 2, 1) := dk_44 (dk_at dksL_law_69 21 rfl rfl)
theorem dL_law_1881 : decode cL_law 1881 = .ok (.aload_n 0, 1) := dk_42 (dk_at dksL_law_69 22 rfl rfl)
theorem dL_law_1882 : decode cL_law 1882 = .ok (.iload 5, 2) := dk_21 5 (dk_at dksL_law_70 0 rfl rfl)
theorem dL_law_1884 : decode cL_law 1884 = .ok (.iconst 1, 1) := dk_4 (dk_at dksL_law_70 2 rfl rfl)
theorem dL_law_1885 : decode cL_law 1885 = .ok (.iadd, 1) := dk_96 (dk_at dksL_law_70 3 rfl rfl)
theorem dL_law_1886 : decode cL_law 1886 = .ok (.iaload, 1) := dk_46 (dk_at dksL_law_70 4 rfl rfl)
theorem dL_law_1887 : decode cL_law 1887 = .ok (.invokevirtual 295, 3) := dk_182 1 39 (dk_at dksL_law_70 5 rfl rfl)
theorem dL_law_1890 : decode cL_law 1890 = .ok (.istore 7, 2) := dk_54 7 (dk_at dksL_law_70 8 rfl rfl)
theorem dL_law_1892 : decode cL_law 1892 = .ok (.aload_n 2, 1) := dk_44 (dk_at dksL_law_70 10 rfl rfl)
theorem dL_law_1893 : decode cL_law 1893 = .ok (.invokevirtual 216, 3) := dk_182 0 216 (dk_at dksL_law_70 11 rfl rfl)
theorem dL_law_1896 : decode cL_law 1896 = .ok (.iload 6, 2) := dk_21 6 (dk_at dksL_law_70 14 rfl rfl)
theorem dL_law_1898 : decode cL_law 1898 = .ok (.if_icmp .eq 5, 3) := dk_159 0 5 (dk_at dksL_law_70 16 rfl rfl)
theorem dL_law_1901 : decode cL_law 1901 = .ok (.iconst 0, 1) := dk_3 (dk_at dksL_law_70 19 rfl rfl)
theorem dL_law_1902 : decode cL_law 1902 = .ok (.ireturn, 1) := dk_172 (dk_at dksL_law_70 20 rfl rfl)
theorem dL_law_1903 : decode cL_law 1903 = .ok (.iload 6, 2) := dk_21 6 (dk_at dksL_law_70 21 rfl rfl)
theorem dL_law_1905 : decode cL_law 1905 = .ok (.ifCond .ne 15, 3) := dk_154 0 15 (dk_at dksL_law_71 0 rfl rfl)
theorem dL_law_1908 : decode cL_law 1908 = .ok (.aload_n 3, 1) := dk_45 (dk_at dksL_law_71 3 rfl rfl)
theorem dL_law_1909 : decode cL_law 1909 = .ok (.iconst 0, 1) := dk_3 (dk_at dksL_law_71 4 rfl rfl)
theorem dL_law_1910 : decode cL_law 1910 = .ok (.laload, 1) := dk_47 (dk_at dksL_law_71 5 rfl rfl)
theorem dL_law_1911 : decode cL_law 1911 = .ok (.iload 7, 2) := dk_21 7 (dk_at dksL_law_71 6 rfl rfl)
theorem dL_law_1913 : decode cL_law 1913 = .ok (.i2l, 1) := dk_133 (dk_at dksL_law_71 8 rfl rfl)
theorem dL_law_1914 : decode cL_law 1914 = .ok (.lcmp, 1) := dk_148 (dk_at dksL_law_71 9 rfl rfl)
theorem dL_law_1915 : decode cL_law 1915 = .ok (.ifCond .eq 5, 3) := dk_153 0 5 (dk_at dksL_law_71 10 rfl rfl)
theorem dL_law_1918 : decode cL_law 1918 = .ok (.iconst 0, 1) := dk_3 (dk_at dksL_law_71 13 rfl rfl)
theorem dL_law_1919 : decode cL_law 1919 = .ok (.ireturn, 1) := dk_172 (dk_at dksL_law_71 14 rfl rfl)
theorem dL_law_1920 : decode cL_law 1920 = .ok (.goto 2266, 3) := dk_167 8 218 (dk_at dksL_law_71 15 rfl rfl)
theorem dL_law_1923 : decode cL_law 1923 = .ok (.aload_n 1, 1) := dk_43 (dk_at dksL_law_71 18 rfl rfl)
theorem dL_law_1924 : decode cL_law 1924 = .ok (.aload_n 0, 1) := dk_42 (dk_at dksL_law_71 19 rfl rfl)
theorem dL_law_1925 : decode cL_law 1925 = .ok (.iload 5, 2) := dk_21 5 (dk_at dksL_law_71 20 rfl rfl)
theorem dL_law_1927 : decode cL_law 1927 = .ok (.iconst 1, 1) := dk_4 (dk_at dksL_law_71 22 rfl rfl)
theorem dL_law_1928 : decode cL_law 1928 = .ok (.iadd, 1) := dk_96 (dk_at dksL_law_71 23 rfl rfl)
theorem dL_law_1929 : decode cL_law 1929 = .ok (.iaload, 1) := dk_46 (dk_at dksL_law_72 0 rfl rfl)
theorem dL_law_1930 : decode cL_law 1930 = .ok (.aload_n 3, 1) := dk_45 (dk_at dksL_law_72 1 rfl rfl)
theorem dL_law_1931 : decode cL_law 1931 = .ok (.invokestatic 296, 3) := dk_184 1 40 (dk_at dksL_law_72 2 rfl rfl)
theorem dL_law_1934 : decode cL_law 1934 = .ok (.istore 6, 2) := dk_54 6 (dk_at dksL_law_72 5 rfl rfl)
theorem dL_law_1936 : decode cL_law 1936 = .ok (.aload_n 2, 1) := dk_44 (dk_at dksL_law_72 7 rfl rfl)
theorem dL_law_1937 : decode cL_law 1937 = .ok (.aload_n 0, 1) := dk_42 (dk_at dksL_law_72 8 rfl rfl)
theorem dL_law_1938 : decode cL_law 1938 = .ok (.iload 5, 2) := dk_21 5 (dk_at dksL_law_72 9 rfl rfl)
theorem dL_law_1940 : decode cL_law 1940 = .ok (.iconst 1, 1) := dk_4 (dk_at dksL_law_72 11 rfl rfl)
theorem dL_law_1941 : decode cL_law 1941 = .ok (.iadd, 1) := dk_96 (dk_at dksL_law_72 12 rfl rfl)
theorem dL_law_1942 : decode cL_law 1942 = .ok (.iaload, 1) := dk_46 (dk_at dksL_law_72 13 rfl rfl)
theorem dL_law_1943 : decode cL_law 1943 = .ok (.invokevirtual 298, 3) := dk_182 1 42 (dk_at dksL_law_72 14 rfl rfl)
theorem dL_law_1946 : decode cL_law 1946 = .ok (.istore 7, 2) := dk_54 7 (dk_at dksL_law_72 17 rfl rfl)
theorem dL_law_1948 : decode cL_law 1948 = .ok (.aload_n 2, 1) := dk_44 (dk_at dksL_law_72 19 rfl rfl)
theorem dL_law_1949 : decode cL_law 1949 = .ok (.invokevirtual 216, 3) := dk_182 0 216 (dk_at dksL_law_72 20 rfl rfl)
theorem dL_law_1952 : decode cL_law 1952 = .ok (.iload 6, 2) := dk_21 6 (dk_at dksL_law_73 0 rfl rfl)
theorem dL_law_1954 : decode cL_law 1954 = .ok (.if_icmp .eq 5, 3) := dk_159 0 5 (dk_at dksL_law_73 2 rfl rfl)
theorem dL_law_1957 : decode cL_law 1957 = .ok (.iconst 0, 1) := dk_3 (dk_at dksL_law_73 5 rfl rfl)
theorem dL_law_1958 : decode cL_law 1958 = .ok (.ireturn, 1) := dk_172 (dk_at dksL_law_73 6 rfl rfl)
theorem dL_law_1959 : decode cL_law 1959 = .ok (.iload 6, 2) := dk_21 6 (dk_at dksL_law_73 7 rfl rfl)
theorem dL_law_1961 : decode cL_law 1961 = .ok (.ifCond .ne 15, 3) := dk_154 0 15 (dk_at dksL_law_73 9 rfl rfl)
theorem dL_law_1964 : decode cL_law 1964 = .ok (.aload_n 3, 1) := dk_45 (dk_at dksL_law_73 12 rfl rfl)
theorem dL_law_1965 : decode cL_law 1965 = .ok (.iconst 0, 1) := dk_3 (dk_at dksL_law_73 13 rfl rfl)
theorem dL_law_1966 : decode cL_law 1966 = .ok (.laload, 1) := dk_47 (dk_at dksL_law_73 14 rfl rfl)
theorem dL_law_1967 : decode cL_law 1967 = .ok (.iload 7, 2) := dk_21 7 (dk_at dksL_law_73 15 rfl rfl)
theorem dL_law_1969 : decode cL_law 1969 = .ok (.i2l, 1) := dk_133 (dk_at dksL_law_73 17 rfl rfl)
theorem dL_law_1970 : decode cL_law 1970 = .ok (.lcmp, 1) := dk_148 (dk_at dksL_law_73 18 rfl rfl)
theorem dL_law_1971 : decode cL_law 1971 = .ok (.ifCond .eq 5, 3) := dk_153 0 5 (dk_at dksL_law_73 19 rfl rfl)
theorem dL_law_1974 : decode cL_law 1974 = .ok (.iconst 0, 1) := dk_3 (dk_at dksL_law_73 22 rfl rfl)
theorem dL_law_1975 : decode cL_law 1975 = .ok (.ireturn, 1) := dk_172 (dk_at dksL_law_73 23 rfl rfl)
theorem dL_law_1976 : decode cL_law 1976 = .ok (.goto 2210, 3) := dk_167 8 162 (dk_at dksL_law_74 0 rfl rfl)
theorem dL_law_1979 : decode cL_law 1979 = .ok (.aload_n 1, 1) := dk_43 (dk_at dksL_law_74 3 rfl rfl)
theorem dL_law_1980 : decode cL_law 1980 = .ok (.aload_n 3, 1) := dk_45 (dk_at dksL_law_74 4 rfl rfl)
theorem dL_law_1981 : decode cL_law 1981 = .ok (.invokestatic 299, 3) := dk_184 1 43 (dk_at dksL_law_74 5 rfl rfl)
theorem dL_law_1984 : decode cL_law 1984 = .ok (.istore 6, 2) := dk_54 6 (dk_at dksL_law_74 8 rfl rfl)
theorem dL_law_1986 : decode cL_law 1986 = .ok (.aload_n 2, 1) := dk_44 (dk_at dksL_law_74 10 rfl rfl)
theorem dL_law_1987 : decode cL_law 1987 = .ok (.invokevirtual 301, 3) := dk_182 1 45 (dk_at dksL_law_74 11 rfl rfl)
theorem dL_law_1990 : decode cL_law 1990 = .ok (.istore 7, 2) := dk_54 7 (dk_at dksL_law_74 14 rfl rfl)
theorem dL_law_1992 : decode cL_law 1992 = .ok (.aload_n 2, 1) := dk_44 (dk_at dksL_law_74 16 rfl rfl)
theorem dL_law_1993 : decode cL_law 1993 = .ok (.invokevirtual 216, 3) := dk_182 0 216 (dk_at dksL_law_74 17 rfl rfl)
theorem dL_law_1996 : decode cL_law 1996 = .ok (.iload 6, 2) := dk_21 6 (dk_at dksL_law_74 20 rfl rfl)
theorem dL_law_1998 : decode cL_law 1998 = .ok (.if_icmp .eq 5, 3) := dk_159 0 5 (dk_at dksL_law_75 0 rfl rfl)
theorem dL_law_2001 : decode cL_law 2001 = .ok (.iconst 0, 1) := dk_3 (dk_at dksL_law_75 3 rfl rfl)
theorem dL_law_2002 : decode cL_law 2002 = .ok (.ireturn, 1) := dk_172 (dk_at dksL_law_75 4 rfl rfl)
theorem dL_law_2003 : decode cL_law 2003 = .ok (.iload 6, 2) := dk_21 6 (dk_at dksL_law_75 5 rfl rfl)
theorem dL_law_2005 : decode cL_law 2005 = .ok (.ifCond .ne 15, 3) := dk_154 0 15 (dk_at dksL_law_75 7 rfl rfl)
theorem dL_law_2008 : decode cL_law 2008 = .ok (.aload_n 3, 1) := dk_45 (dk_at dksL_law_75 10 rfl rfl)
theorem dL_law_2009 : decode cL_law 2009 = .ok (.iconst 0, 1) := dk_3 (dk_at dksL_law_75 11 rfl rfl)
theorem dL_law_2010 : decode cL_law 2010 = .ok (.laload, 1) := dk_47 (dk_at dksL_law_75 12 rfl rfl)
theorem dL_law_2011 : decode cL_law 2011 = .ok (.iload 7, 2) := dk_21 7 (dk_at dksL_law_75 13 rfl rfl)
theorem dL_law_2013 : decode cL_law 2013 = .ok (.i2l, 1) := dk_133 (dk_at dksL_law_75 15 rfl rfl)
theorem dL_law_2014 : decode cL_law 2014 = .ok (.lcmp, 1) := dk_148 (dk_at dksL_law_75 16 rfl rfl)
theorem dL_law_2015 : decode cL_law 2015 = .ok (.ifCond .eq 5, 3) := dk_153 0 5 (dk_at dksL_law_75 17 rfl rfl)
theorem dL_law_2018 : decode cL_law 2018 = .ok (.iconst 0, 1) := dk_3 (dk_at dksL_law_75 20 rfl rfl)
theorem dL_law_2019 : decode cL_law 2019 = .ok (.ireturn, 1) := dk_172 (dk_at dksL_law_75 21 rfl rfl)
theorem dL_law_2020 : decode cL_law 2020 = .ok (.goto 2166, 3) := dk_167 8 118 (dk_at dksL_law_76 0 rfl rfl)
theorem dL_law_2023 : decode cL_law 2023 = .ok (.aload_n 1, 1) := dk_43 (dk_at dksL_law_76 3 rfl rfl)
theorem dL_law_2024 : decode cL_law 2024 = .ok (.aload_n 0, 1) := dk_42 (dk_at dksL_law_76 4 rfl rfl)
theorem dL_law_2025 : decode cL_law 2025 = .ok (.iload 5, 2) := dk_21 5 (dk_at dksL_law_76 5 rfl rfl)
theorem dL_law_2027 : decode cL_law 2027 = .ok (.iconst 1, 1) := dk_4 (dk_at dksL_law_76 7 rfl rfl)
theorem dL_law_2028 : decode cL_law 2028 = .ok (.iadd, 1) := dk_96 (dk_at dksL_law_76 8 rfl rfl)
theorem dL_law_2029 : decode cL_law 2029 = .ok (.iaload, 1) := dk_46 (dk_at dksL_law_76 9 rfl rfl)
theorem dL_law_2030 : decode cL_law 2030 = .ok (.aload_n 3, 1) := dk_45 (dk_at dksL_law_76 10 rfl rfl)
theorem dL_law_2031 : decode cL_law 2031 = .ok (.invokestatic 302, 3) := dk_184 1 46 (dk_at dksL_law_76 11 rfl rfl)
theorem dL_law_2034 : decode cL_law 2034 = .ok (.istore 6, 2) := dk_54 6 (dk_at dksL_law_76 14 rfl rfl)
theorem dL_law_2036 : decode cL_law 2036 = .ok (.aload_n 2, 1) := dk_44 (dk_at dksL_law_76 16 rfl rfl)
theorem dL_law_2037 : decode cL_law 2037 = .ok (.aload_n 0, 1) := dk_42 (dk_at dksL_law_76 17 rfl rfl)
theorem dL_law_2038 : decode cL_law 2038 = .ok (.iload 5, 2) := dk_21 5 (dk_at dksL_law_76 18 rfl rfl)
theorem dL_law_2040 : decode cL_law 2040 = .ok (.iconst 1, 1) := dk_4 (dk_at dksL_law_76 20 rfl rfl)
theorem dL_law_2041 : decode cL_law 2041 = .ok (.iadd, 1) := dk_96 (dk_at dksL_law_76 21 rfl rfl)
theorem dL_law_2042 : decode cL_law 2042 = .ok (.iaload, 1) := dk_46 (dk_at dksL_law_76 22 rfl rfl)
theorem dL_law_2043 : decode cL_law 2043 = .ok (.invokevirtual 304, 3) := dk_182 1 48 (dk_at dksL_law_77 0 rfl rfl)
theorem dL_law_2046 : decode cL_law 2046 = .ok (.istore 7, 2) := dk_54 7 (dk_at dksL_law_77 3 rfl rfl)
theorem dL_law_2048 : decode cL_law 2048 = .ok (.aload_n 2, 1) := dk_44 (dk_at dksL_law_77 5 rfl rfl)
theorem dL_law_2049 : decode cL_law 2049 = .ok (.invokevirtual 216, 3) := dk_182 0 216 (dk_at dksL_law_77 6 rfl rfl)
theorem dL_law_2052 : decode cL_law 2052 = .ok (.iload 6, 2) := dk_21 6 (dk_at dksL_law_77 9 rfl rfl)
theorem dL_law_2054 : decode cL_law 2054 = .ok (.if_icmp .eq 5, 3) := dk_159 0 5 (dk_at dksL_law_77 11 rfl rfl)
theorem dL_law_2057 : decode cL_law 2057 = .ok (.iconst 0, 1) := dk_3 (dk_at dksL_law_77 14 rfl rfl)
theorem dL_law_2058 : decode cL_law 2058 = .ok (.ireturn, 1) := dk_172 (dk_at dksL_law_77 15 rfl rfl)
theorem dL_law_2059 : decode cL_law 2059 = .ok (.iload 6, 2) := dk_21 6 (dk_at dksL_law_77 16 rfl rfl)
theorem dL_law_2061 : decode cL_law 2061 = .ok (.ifCond .ne 15, 3) := dk_154 0 15 (dk_at dksL_law_77 18 rfl rfl)
theorem dL_law_2064 : decode cL_law 2064 = .ok (.aload_n 3, 1) := dk_45 (dk_at dksL_law_77 21 rfl rfl)
theorem dL_law_2065 : decode cL_law 2065 = .ok (.iconst 0, 1) := dk_3 (dk_at dksL_law_77 22 rfl rfl)
theorem dL_law_2066 : decode cL_law 2066 = .ok (.laload, 1) := dk_47 (dk_at dksL_law_77 23 rfl rfl)
theorem dL_law_2067 : decode cL_law 2067 = .ok (.iload 7, 2) := dk_21 7 (dk_at dksL_law_78 0 rfl rfl)
theorem dL_law_2069 : decode cL_law 2069 = .ok (.i2l, 1) := dk_133 (dk_at dksL_law_78 2 rfl rfl)
theorem dL_law_2070 : decode cL_law 2070 = .ok (.lcmp, 1) := dk_148 (dk_at dksL_law_78 3 rfl rfl)
theorem dL_law_2071 : decode cL_law 2071 = .ok (.ifCond .eq 5, 3) := dk_153 0 5 (dk_at dksL_law_78 4 rfl rfl)
theorem dL_law_2074 : decode cL_law 2074 = .ok (.iconst 0, 1) := dk_3 (dk_at dksL_law_78 7 rfl rfl)
theorem dL_law_2075 : decode cL_law 2075 = .ok (.ireturn, 1) := dk_172 (dk_at dksL_law_78 8 rfl rfl)
theorem dL_law_2076 : decode cL_law 2076 = .ok (.goto 2110, 3) := dk_167 8 62 (dk_at dksL_law_78 9 rfl rfl)
theorem dL_law_2079 : decode cL_law 2079 = .ok (.aload_n 1, 1) := dk_43 (dk_at dksL_law_78 12 rfl rfl)
theorem dL_law_2080 : decode cL_law 2080 = .ok (.aload_n 3, 1) := dk_45 (dk_at dksL_law_78 13 rfl rfl)
theorem dL_law_2081 : decode cL_law 2081 = .ok (.invokestatic 305, 3) := dk_184 1 49 (dk_at dksL_law_78 14 rfl rfl)
theorem dL_law_2084 : decode cL_law 2084 = .ok (.istore 6, 2) := dk_54 6 (dk_at dksL_law_78 17 rfl rfl)
theorem dL_law_2086 : decode cL_law 2086 = .ok (.aload_n 2, 1) := dk_44 (dk_at dksL_law_78 19 rfl rfl)
theorem dL_law_2087 : decode cL_law 2087 = .ok (.invokevirtual 307, 3) := dk_182 1 51 (dk_at dksL_law_78 20 rfl rfl)
theorem dL_law_2090 : decode cL_law 2090 = .ok (.istore 7, 2) := dk_54 7 (dk_at dksL_law_79 0 rfl rfl)
theorem dL_law_2092 : decode cL_law 2092 = .ok (.aload_n 2, 1) := dk_44 (dk_at dksL_law_79 2 rfl rfl)
theorem dL_law_2093 : decode cL_law 2093 = .ok (.invokevirtual 216, 3) := dk_182 0 216 (dk_at dksL_law_79 3 rfl rfl)
theorem dL_law_2096 : decode cL_law 2096 = .ok (.iload 6, 2) := dk_21 6 (dk_at dksL_law_79 6 rfl rfl)
theorem dL_law_2098 : decode cL_law 2098 = .ok (.if_icmp .eq 5, 3) := dk_159 0 5 (dk_at dksL_law_79 8 rfl rfl)
theorem dL_law_2101 : decode cL_law 2101 = .ok (.iconst 0, 1) := dk_3 (dk_at dksL_law_79 11 rfl rfl)
theorem dL_law_2102 : decode cL_law 2102 = .ok (.ireturn, 1) := dk_172 (dk_at dksL_law_79 12 rfl rfl)
theorem dL_law_2103 : decode cL_law 2103 = .ok (.iload 6, 2) := dk_21 6 (dk_at dksL_law_79 13 rfl rfl)
theorem dL_law_2105 : decode cL_law 2105 = .ok (.ifCond .ne 15, 3) := dk_154 0 15 (dk_at dksL_law_79 15 rfl rfl)
theorem dL_law_2108 : decode cL_law 2108 = .ok (.aload_n 3, 1) := dk_45 (dk_at dksL_law_79 18 rfl rfl)
theorem dL_law_2109 : decode cL_law 2109 = .ok (.iconst 0, 1) := dk_3 (dk_at dksL_law_79 19 rfl rfl)
theorem dL_law_2110 : decode cL_law 2110 = .ok (.laload, 1) := dk_47 (dk_at dksL_law_79 20 rfl rfl)
theorem dL_law_2111 : decode cL_law 2111 = .ok (.iload 7, 2) := dk_21 7 (dk_at dksL_law_79 21 rfl rfl)
theorem dL_law_2113 : decode cL_law 2113 = .ok (.i2l, 1) := dk_133 (dk_at dksL_law_79 23 rfl rfl)
theorem dL_law_2114 : decode cL_law 2114 = .ok (.lcmp, 1) := dk_148 (dk_at dksL_law_80 0 rfl rfl)
theorem dL_law_2115 : decode cL_law 2115 = .ok (.ifCond .eq 5, 3) := dk_153 0 5 (dk_at dksL_law_80 1 rfl rfl)
theorem dL_law_2118 : decode cL_law 2118 = .ok (.iconst 0, 1) := dk_3 (dk_at dksL_law_80 4 rfl rfl)
theorem dL_law_2119 : decode cL_law 2119 = .ok (.ireturn, 1) := dk_172 (dk_at dksL_law_80 5 rfl rfl)
theorem dL_law_2120 : decode cL_law 2120 = .ok (.goto 2066, 3) := dk_167 8 18 (dk_at dksL_law_80 6 rfl rfl)
theorem dL_law_2123 : decode cL_law 2123 = .ok (.aload_n 1, 1) := dk_43 (dk_at dksL_law_80 9 rfl rfl)
theorem dL_law_2124 : decode cL_law 2124 = .ok (.aload_n 0, 1) := dk_42 (dk_at dksL_law_80 10 rfl rfl)
theorem dL_law_2125 : decode cL_law 2125 = .ok (.iload 5, 2) := dk_21 5 (dk_at dksL_law_80 11 rfl rfl)
theorem dL_law_2127 : decode cL_law 2127 = .ok (.iconst 1, 1) := dk_4 (dk_at dksL_law_80 13 rfl rfl)
theorem dL_law_2128 : decode cL_law 2128 = .ok (.iadd, 1) := dk_96 (dk_at dksL_law_80 14 rfl rfl)
theorem dL_law_2129 : decode cL_law 2129 = .ok (.iaload, 1) := dk_46 (dk_at dksL_law_80 15 rfl rfl)
theorem dL_law_2130 : decode cL_law 2130 = .ok (.aload_n 0, 1) := dk_42 (dk_at dksL_law_80 16 rfl rfl)
theorem dL_law_2131 : decode cL_law 2131 = .ok (.iload 5, 2) := dk_21 5 (dk_at dksL_law_80 17 rfl rfl)
theorem dL_law_2133 : decode cL_law 2133 = .ok (.iconst 2, 1) := dk_5 (dk_at dksL_law_80 19 rfl rfl)
theorem dL_law_2134 : decode cL_law 2134 = .ok (.iadd, 1) := dk_96 (dk_at dksL_law_80 20 rfl rfl)
theorem dL_law_2135 : decode cL_law 2135 = .ok (.iaload, 1) := dk_46 (dk_at dksL_law_80 21 rfl rfl)
theorem dL_law_2136 : decode cL_law 2136 = .ok (.aload_n 3, 1) := dk_45 (dk_at dksL_law_80 22 rfl rfl)
theorem dL_law_2137 : decode cL_law 2137 = .ok (.invokestatic 308, 3) := dk_184 1 52 (dk_at dksL_law_81 0 rfl rfl)
theorem dL_law_2140 : decode cL_law 2140 = .ok (.istore 6, 2) := dk_54 6 (dk_at dksL_law_81 3 rfl rfl)
theorem dL_law_2142 : decode cL_law 2142 = .ok (.aload_n 2, 1) := dk_44 (dk_at dksL_law_81 5 rfl rfl)
theorem dL_law_2143 : decode cL_law 2143 = .ok (.aload_n 0, 1) := dk_42 (dk_at dksL_law_81 6 rfl rfl)
theorem dL_law_2144 : decode cL_law 2144 = .ok (.iload 5, 2) := dk_21 5 (dk_at dksL_law_81 7 rfl rfl)
theorem dL_law_2146 : decode cL_law 2146 = .ok (.iconst 1, 1) := dk_4 (dk_at dksL_law_81 9 rfl rfl)
theorem dL_law_2147 : decode cL_law 2147 = .ok (.iadd, 1) := dk_96 (dk_at dksL_law_81 10 rfl rfl)
theorem dL_law_2148 : decode cL_law 2148 = .ok (.iaload, 1) := dk_46 (dk_at dksL_law_81 11 rfl rfl)
theorem dL_law_2149 : decode cL_law 2149 = .ok (.aload_n 0, 1) := dk_42 (dk_at dksL_law_81 12 rfl rfl)
theorem dL_law_2150 : decode cL_law 2150 = .ok (.iload 5, 2) := dk_21 5 (dk_at dksL_law_81 13 rfl rfl)
theorem dL_law_2152 : decode cL_law 2152 = .ok (.iconst 2, 1) := dk_5 (dk_at dksL_law_81 15 rfl rfl)
theorem dL_law_2153 : decode cL_law 2153 = .ok (.iadd, 1) := dk_96 (dk_at dksL_law_81 16 rfl rfl)
theorem dL_law_2154 : decode cL_law 2154 = .ok (.iaload, 1) := dk_46 (dk_at dksL_law_81 17 rfl rfl)
theorem dL_law_2155 : decode cL_law 2155 = .ok (.invokevirtual 310, 3) := dk_182 1 54 (dk_at dksL_law_81 18 rfl rfl)
theorem dL_law_2158 : decode cL_law 2158 = .ok (.istore 7, 2) := dk_54 7 (dk_at dksL_law_81 21 rfl rfl)
theorem dL_law_2160 : decode cL_law 2160 = .ok (.aload_n 2, 1) := dk_44 (dk_at dksL_law_81 23 rfl rfl)
theorem dL_law_2161 : decode cL_law 2161 = .ok (.invokevirtual 216, 3) := dk_182 0 216 (dk_at dksL_law_82 0 rfl rfl)
theorem dL_law_2164 : decode cL_law 2164 = .ok (.iload 6, 2) := dk_21 6 (dk_at dksL_law_82 3 rfl rfl)
theorem dL_law_2166 : decode cL_law 2166 = .ok (.if_icmp .eq 5, 3) := dk_159 0 5 (dk_at dksL_law_82 5 rfl rfl)
theorem dL_law_2169 : decode cL_law 2169 = .ok (.iconst 0, 1) := dk_3 (dk_at dksL_law_82 8 rfl rfl)
theorem dL_law_2170 : decode cL_law 2170 = .ok (.ireturn, 1) := dk_172 (dk_at dksL_law_82 9 rfl rfl)
theorem dL_law_2171 : decode cL_law 2171 = .ok (.iload 6, 2) := dk_21 6 (dk_at dksL_law_82 10 rfl rfl)
theorem dL_law_2173 : decode cL_law 2173 = .ok (.ifCond .ne 15, 3) := dk_154 0 15 (dk_at dksL_law_82 12 rfl rfl)
theorem dL_law_2176 : decode cL_law 2176 = .ok (.aload_n 3, 1) := dk_45 (dk_at dksL_law_82 15 rfl rfl)
theorem dL_law_2177 : decode cL_law 2177 = .ok (.iconst 0, 1) := dk_3 (dk_at dksL_law_82 16 rfl rfl)
theorem dL_law_2178 : decode cL_law 2178 = .ok (.laload, 1) := dk_47 (dk_at dksL_law_82 17 rfl rfl)
theorem dL_law_2179 : decode cL_law 2179 = .ok (.iload 7, 2) := dk_21 7 (dk_at dksL_law_82 18 rfl rfl)
theorem dL_law_2181 : decode cL_law 2181 = .ok (.i2l, 1) := dk_133 (dk_at dksL_law_82 20 rfl rfl)
theorem dL_law_2182 : decode cL_law 2182 = .ok (.lcmp, 1) := dk_148 (dk_at dksL_law_82 21 rfl rfl)
theorem dL_law_2183 : decode cL_law 2183 = .ok (.ifCond .eq 5, 3) := dk_153 0 5 (dk_at dksL_law_83 0 rfl rfl)
theorem dL_law_2186 : decode cL_law 2186 = .ok (.iconst 0, 1) := dk_3 (dk_at dksL_law_83 3 rfl rfl)
theorem dL_law_2187 : decode cL_law 2187 = .ok (.ireturn, 1) := dk_172 (dk_at dksL_law_83 4 rfl rfl)
theorem dL_law_2188 : decode cL_law 2188 = .ok (.goto 1998, 3) := dk_167 7 206 (dk_at dksL_law_83 5 rfl rfl)
theorem dL_law_2191 : decode cL_law 2191 = .ok (.aload_n 1, 1) := dk_43 (dk_at dksL_law_83 8 rfl rfl)
theorem dL_law_2192 : decode cL_law 2192 = .ok (.aload_n 0, 1) := dk_42 (dk_at dksL_law_83 9 rfl rfl)
theorem dL_law_2193 : decode cL_law 2193 = .ok (.iload 5, 2) := dk_21 5 (dk_at dksL_law_83 10 rfl rfl)
theorem dL_law_2195 : decode cL_law 2195 = .ok (.iconst 1, 1) := dk_4 (dk_at dksL_law_83 12 rfl rfl)
theorem dL_law_2196 : decode cL_law 2196 = .ok (.iadd, 1) := dk_96 (dk_at dksL_law_83 13 rfl rfl)
theorem dL_law_2197 : decode cL_law 2197 = .ok (.iaload, 1) := dk_46 (dk_at dksL_law_83 14 rfl rfl)
theorem dL_law_2198 : decode cL_law 2198 = .ok (.aload_n 3, 1) := dk_45 (dk_at dksL_law_83 15 rfl rfl)
theorem dL_law_2199 : decode cL_law 2199 = .ok (.invokestatic 311, 3) := dk_184 1 55 (dk_at dksL_law_83 16 rfl rfl)
theorem dL_law_2202 : decode cL_law 2202 = .ok (.istore 6, 2) := dk_54 6 (dk_at dksL_law_83 19 rfl rfl)
theorem dL_law_2204 : decode cL_law 2204 = .ok (.aload_n 2, 1) := dk_44 (dk_at dksL_law_83 21 rfl rfl)
theorem dL_law_2205 : decode cL_law 2205 = .ok (.aload_n 0, 1) := dk_42 (dk_at dksL_law_83 22 rfl rfl)
theorem dL_law_2206 : decode cL_law 2206 = .ok (.iload 5, 2) := dk_21 5 (dk_at dksL_law_84 0 rfl rfl)
theorem dL_law_2208 : decode cL_law 2208 = .ok (.iconst 1, 1) := dk_4 (dk_at dksL_law_84 2 rfl rfl)
theorem dL_law_2209 : decode cL_law 2209 = .ok (.iadd, 1) := dk_96 (dk_at dksL_law_84 3 rfl rfl)
theorem dL_law_2210 : decode cL_law 2210 = .ok (.iaload, 1) := dk_46 (dk_at dksL_law_84 4 rfl rfl)
theorem dL_law_2211 : decode cL_law 2211 = .ok (.invokevirtual 313, 3) := dk_182 1 57 (dk_at dksL_law_84 5 rfl rfl)
theorem dL_law_2214 : decode cL_law 2214 = .ok (.istore 7, 2) := dk_54 7 (dk_at dksL_law_84 8 rfl rfl)
theorem dL_law_2216 : decode cL_law 2216 = .ok (.aload_n 2, 1) := dk_44 (dk_at dksL_law_84 10 rfl rfl)
theorem dL_law_2217 : decode cL_law 2217 = .ok (.invokevirtual 216, 3) := dk_182 0 216 (dk_at dksL_law_84 11 rfl rfl)
theorem dL_law_2220 : decode cL_law 2220 = .ok (.iload 6, 2) := dk_21 6 (dk_at dksL_law_84 14 rfl rfl)
theorem dL_law_2222 : decode cL_law 2222 = .ok (.if_icmp .eq 5, 3) := dk_159 0 5 (dk_at dksL_law_84 16 rfl rfl)
theorem dL_law_2225 : decode cL_law 2225 = .ok (.iconst 0, 1) := dk_3 (dk_at dksL_law_84 19 rfl rfl)
theorem dL_law_2226 : decode cL_law 2226 = .ok (.ireturn, 1) := dk_172 (dk_at dksL_law_84 20 rfl rfl)
theorem dL_law_2227 : decode cL_law 2227 = .ok (.iload 6, 2) := dk_21 6 (dk_at dksL_law_84 21 rfl rfl)
theorem dL_law_2229 : decode cL_law 2229 = .ok (.ifCond .ne 15, 3) := dk_154 0 15 (dk_at dksL_law_85 0 rfl rfl)
theorem dL_law_2232 : decode cL_law 2232 = .ok (.aload_n 3, 1) := dk_45 (dk_at dksL_law_85 3 rfl rfl)
theorem dL_law_2233 : decode cL_law 2233 = .ok (.iconst 0, 1) := dk_3 (dk_at dksL_law_85 4 rfl rfl)
theorem dL_law_2234 : decode cL_law 2234 = .ok (.laload, 1) := dk_47 (dk_at dksL_law_85 5 rfl rfl)
theorem dL_law_2235 : decode cL_law 2235 = .ok (.iload 7, 2) := dk_21 7 (dk_at dksL_law_85 6 rfl rfl)
theorem dL_law_2237 : decode cL_law 2237 = .ok (.i2l, 1) := dk_133 (dk_at dksL_law_85 8 rfl rfl)
theorem dL_law_2238 : decode cL_law 2238 = .ok (.lcmp, 1) := dk_148 (dk_at dksL_law_85 9 rfl rfl)
theorem dL_law_2239 : decode cL_law 2239 = .ok (.ifCond .eq 5, 3) := dk_153 0 5 (dk_at dksL_law_85 10 rfl rfl)
theorem dL_law_2242 : decode cL_law 2242 = .ok (.iconst 0, 1) := dk_3 (dk_at dksL_law_85 13 rfl rfl)
theorem dL_law_2243 : decode cL_law 2243 = .ok (.ireturn, 1) := dk_172 (dk_at dksL_law_85 14 rfl rfl)
theorem dL_law_2244 : decode cL_law 2244 = .ok (.goto 1942, 3) := dk_167 7 150 (dk_at dksL_law_85 15 rfl rfl)
theorem dL_law_2247 : decode cL_law 2247 = .ok (.aload_n 1, 1) := dk_43 (dk_at dksL_law_85 18 rfl rfl)
theorem dL_law_2248 : decode cL_law 2248 = .ok (.aload_n 0, 1) := dk_42 (dk_at dksL_law_85 19 rfl rfl)
theorem dL_law_2249 : decode cL_law 2249 = .ok (.iload 5, 2) := dk_21 5 (dk_at dksL_law_85 20 rfl rfl)
theorem dL_law_2251 : decode cL_law 2251 = .ok (.iconst 1, 1) := dk_4 (dk_at dksL_law_85 22 rfl rfl)
theorem dL_law_2252 : decode cL_law 2252 = .ok (.iadd, 1) := dk_96 (dk_at dksL_law_85 23 rfl rfl)
theorem dL_law_2253 : decode cL_law 2253 = .ok (.iaload, 1) := dk_46 (dk_at dksL_law_86 0 rfl rfl)
theorem dL_law_2254 : decode cL_law 2254 = .ok (.aload_n 3, 1) := dk_45 (dk_at dksL_law_86 1 rfl rfl)
theorem dL_law_2255 : decode cL_law 2255 = .ok (.invokestatic 314, 3) := dk_184 1 58 (dk_at dksL_law_86 2 rfl rfl)
theorem dL_law_2258 : decode cL_law 2258 = .ok (.istore 6, 2) := dk_54 6 (dk_at dksL_law_86 5 rfl rfl)
theorem dL_law_2260 : decode cL_law 2260 = .ok (.aload_n 2, 1) := dk_44 (dk_at dksL_law_86 7 rfl rfl)
theorem dL_law_2261 : decode cL_law 2261 = .ok (.aload_n 0, 1) := dk_42 (dk_at dksL_law_86 8 rfl rfl)
theorem dL_law_2262 : decode cL_law 2262 = .ok (.iload 5, 2) := dk_21 5 (dk_at dksL_law_86 9 rfl rfl)
theorem dL_law_2264 : decode cL_law 2264 = .ok (.iconst 1, 1) := dk_4 (dk_at dksL_law_86 11 rfl rfl)
theorem dL_law_2265 : decode cL_law 2265 = .ok (.iadd, 1) := dk_96 (dk_at dksL_law_86 12 rfl rfl)
theorem dL_law_2266 : decode cL_law 2266 = .ok (.iaload, 1) := dk_46 (dk_at dksL_law_86 13 rfl rfl)
theorem dL_law_2267 : decode cL_law 2267 = .ok (.invokevirtual 316, 3) := dk_182 1 60 (dk_at dksL_law_86 14 rfl rfl)
theorem dL_law_2270 : decode cL_law 2270 = .ok (.istore 7, 2) := dk_54 7 (dk_at dksL_law_86 17 rfl rfl)
theorem dL_law_2272 : decode cL_law 2272 = .ok (.aload_n 2, 1) := dk_44 (dk_at dksL_law_86 19 rfl rfl)
theorem dL_law_2273 : decode cL_law 2273 = .ok (.invokevirtual 216, 3) := dk_182 0 216 (dk_at dksL_law_86 20 rfl rfl)
theorem dL_law_2276 : decode cL_law 2276 = .ok (.iload 6, 2) := dk_21 6 (dk_at dksL_law_87 0 rfl rfl)
theorem dL_law_2278 : decode cL_law 2278 = .ok (.if_icmp .eq 5, 3) := dk_159 0 5 (dk_at dksL_law_87 2 rfl rfl)
theorem dL_law_2281 : decode cL_law 2281 = .ok (.iconst 0, 1) := dk_3 (dk_at dksL_law_87 5 rfl rfl)
theorem dL_law_2282 : decode cL_law 2282 = .ok (.ireturn, 1) := dk_172 (dk_at dksL_law_87 6 rfl rfl)
theorem dL_law_2283 : decode cL_law 2283 = .ok (.iload 6, 2) := dk_21 6 (dk_at dksL_law_87 7 rfl rfl)
theorem dL_law_2285 : decode cL_law 2285 = .ok (.ifCond .ne 15, 3) := dk_154 0 15 (dk_at dksL_law_87 9 rfl rfl)
theorem dL_law_2288 : decode cL_law 2288 = .ok (.aload_n 3, 1) := dk_45 (dk_at dksL_law_87 12 rfl rfl)
theorem dL_law_2289 : decode cL_law 2289 = .ok (.iconst 0, 1) := dk_3 (dk_at dksL_law_87 13 rfl rfl)
theorem dL_law_2290 : decode cL_law 2290 = .ok (.laload, 1) := dk_47 (dk_at dksL_law_87 14 rfl rfl)
theorem dL_law_2291 : decode cL_law 2291 = .ok (.iload 7, 2) := dk_21 7 (dk_at dksL_law_87 15 rfl rfl)
theorem dL_law_2293 : decode cL_law 2293 = .ok (.i2l, 1) := dk_133 (dk_at dksL_law_87 17 rfl rfl)
theorem dL_law_2294 : decode cL_law 2294 = .ok (.lcmp, 1) := dk_148 (dk_at dksL_law_87 18 rfl rfl)
theorem dL_law_2295 : decode cL_law 2295 = .ok (.ifCond .eq 5, 3) := dk_153 0 5 (dk_at dksL_law_87 19 rfl rfl)
theorem dL_law_2298 : decode cL_law 2298 = .ok (.iconst 0, 1) := dk_3 (dk_at dksL_law_87 22 rfl rfl)
theorem dL_law_2299 : decode cL_law 2299 = .ok (.ireturn, 1) := dk_172 (dk_at dksL_law_87 23 rfl rfl)
theorem dL_law_2300 : decode cL_law 2300 = .ok (.goto 1886, 3) := dk_167 7 94 (dk_at dksL_law_88 0 rfl rfl)
theorem dL_law_2303 : decode cL_law 2303 = .ok (.aload_n 1, 1) := dk_43 (dk_at dksL_law_88 3 rfl rfl)
theorem dL_law_2304 : decode cL_law 2304 = .ok (.aload_n 0, 1) := dk_42 (dk_at dksL_law_88 4 rfl rfl)
theorem dL_law_2305 : decode cL_law 2305 = .ok (.iload 5, 2) := dk_21 5 (dk_at dksL_law_88 5 rfl rfl)
theorem dL_law_2307 : decode cL_law 2307 = .ok (.iconst 1, 1) := dk_4 (dk_at dksL_law_88 7 rfl rfl)
theorem dL_law_2308 : decode cL_law 2308 = .ok (.iadd, 1) := dk_96 (dk_at dksL_law_88 8 rfl rfl)
theorem dL_law_2309 : decode cL_law 2309 = .ok (.iaload, 1) := dk_46 (dk_at dksL_law_88 9 rfl rfl)
theorem dL_law_2310 : decode cL_law 2310 = .ok (.aload_n 3, 1) := dk_45 (dk_at dksL_law_88 10 rfl rfl)
theorem dL_law_2311 : decode cL_law 2311 = .ok (.invokestatic 317, 3) := dk_184 1 61 (dk_at dksL_law_88 11 rfl rfl)
theorem dL_law_2314 : decode cL_law 2314 = .ok (.istore 6, 2) := dk_54 6 (dk_at dksL_law_88 14 rfl rfl)
theorem dL_law_2316 : decode cL_law 2316 = .ok (.aload_n 2, 1) := dk_44 (dk_at dksL_law_88 16 rfl rfl)
theorem dL_law_2317 : decode cL_law 2317 = .ok (.aload_n 0, 1) := dk_42 (dk_at dksL_law_88 17 rfl rfl)
theorem dL_law_2318 : decode cL_law 2318 = .ok (.iload 5, 2) := dk_21 5 (dk_at dksL_law_88 18 rfl rfl)
theorem dL_law_2320 : decode cL_law 2320 = .ok (.iconst 1, 1) := dk_4 (dk_at dksL_law_88 20 rfl rfl)
theorem dL_law_2321 : decode cL_law 2321 = .ok (.iadd, 1) := dk_96 (dk_at dksL_law_88 21 rfl rfl)
theorem dL_law_2322 : decode cL_law 2322 = .ok (.iaload, 1) := dk_46 (dk_at dksL_law_88 22 rfl rfl)
theorem dL_law_2323 : decode cL_law 2323 = .ok (.invokevirtual 319, 3) := dk_182 1 63 (dk_at dksL_law_89 0 rfl rfl)
theorem dL_law_2326 : decode cL_law 2326 = .ok (.istore 7, 2) := dk_54 7 (dk_at dksL_law_89 3 rfl rfl)
theorem dL_law_2328 : decode cL_law 2328 = .ok (.aload_n 2, 1) := dk_44 (dk_at dksL_law_89 5 rfl rfl)
theorem dL_law_2329 : decode cL_law 2329 = .ok (.invokevirtual 216, 3) := dk_182 0 216 (dk_at dksL_law_89 6 rfl rfl)
theorem dL_law_2332 : decode cL_law 2332 = .ok (.iload 6, 2) := dk_21 6 (dk_at dksL_law_89 9 rfl rfl)
theorem dL_law_2334 : decode cL_law 2334 = .ok (.if_icmp .eq 5, 3) := dk_159 0 5 (dk_at dksL_law_89 11 rfl rfl)
theorem dL_law_2337 : decode cL_law 2337 = .ok (.iconst 0, 1) := dk_3 (dk_at dksL_law_89 14 rfl rfl)
theorem dL_law_2338 : decode cL_law 2338 = .ok (.ireturn, 1) := dk_172 (dk_at dksL_law_89 15 rfl rfl)
theorem dL_law_2339 : decode cL_law 2339 = .ok (.iload 6, 2) := dk_21 6 (dk_at dksL_law_89 16 rfl rfl)
theorem dL_law_2341 : decode cL_law 2341 = .ok (.ifCond .ne 15, 3) := dk_154 0 15 (dk_at dksL_law_89 18 rfl rfl)
theorem dL_law_2344 : decode cL_law 2344 = .ok (.aload_n 3, 1) := dk_45 (dk_at dksL_law_89 21 rfl rfl)
theorem dL_law_2345 : decode cL_law 2345 = .ok (.iconst 0, 1) := dk_3 (dk_at dksL_law_89 22 rfl rfl)
theorem dL_law_2346 : decode cL_law 2346 = .ok (.laload, 1) := dk_47 (dk_at dksL_law_89 23 rfl rfl)
theorem dL_law_2347 : decode cL_law 2347 = .ok (.iload 7, 2) := dk_21 7 (dk_at dksL_law_90 0 rfl rfl)
theorem dL_law_2349 : decode cL_law 2349 = .ok (.i2l, 1) := dk_133 (dk_at dksL_law_90 2 rfl rfl)
theorem dL_law_2350 : decode cL_law 2350 = .ok (.lcmp, 1) := dk_148 (dk_at dksL_law_90 3 rfl rfl)
theorem dL_law_2351 : decode cL_law 2351 = .ok (.ifCond .eq 5, 3) := dk_153 0 5 (dk_at dksL_law_90 4 rfl rfl)
theorem dL_law_2354 : decode cL_law 2354 = .ok (.iconst 0, 1) := dk_3 (dk_at dksL_law_90 7 rfl rfl)
theorem dL_law_2355 : decode cL_law 2355 = .ok (.ireturn, 1) := dk_172 (dk_at dksL_law_90 8 rfl rfl)
theorem dL_law_2356 : decode cL_law 2356 = .ok (.goto 1830, 3) := dk_167 7 38 (dk_at dksL_law_90 9 rfl rfl)
theorem dL_law_2359 : decode cL_law 2359 = .ok (.aload_n 1, 1) := dk_43 (dk_at dksL_law_90 12 rfl rfl)
theorem dL_law_2360 : decode cL_law 2360 = .ok (.aload_n 0, 1) := dk_42 (dk_at dksL_law_90 13 rfl rfl)
theorem dL_law_2361 : decode cL_law 2361 = .ok (.iload 5, 2) := dk_21 5 (dk_at dksL_law_90 14 rfl rfl)
theorem dL_law_2363 : decode cL_law 2363 = .ok (.iconst 1, 1) := dk_4 (dk_at dksL_law_90 16 rfl rfl)
theorem dL_law_2364 : decode cL_law 2364 = .ok (.iadd, 1) := dk_96 (dk_at dksL_law_90 17 rfl rfl)
theorem dL_law_2365 : decode cL_law 2365 = .ok (.iaload, 1) := dk_46 (dk_at dksL_law_90 18 rfl rfl)
theorem dL_law_2366 : decode cL_law 2366 = .ok (.aload_n 0, 1) := dk_42 (dk_at dksL_law_90 19 rfl rfl)
theorem dL_law_2367 : decode cL_law 2367 = .ok (.iload 5, 2) := dk_21 5 (dk_at dksL_law_90 20 rfl rfl)
theorem dL_law_2369 : decode cL_law 2369 = .ok (.iconst 2, 1) := dk_5 (dk_at dksL_law_90 22 rfl rfl)
theorem dL_law_2370 : decode cL_law 2370 = .ok (.iadd, 1) := dk_96 (dk_at dksL_law_90 23 rfl rfl)
theorem dL_law_2371 : decode cL_law 2371 = .ok (.iaload, 1) := dk_46 (dk_at dksL_law_91 0 rfl rfl)
theorem dL_law_2372 : decode cL_law 2372 = .ok (.aload_n 3, 1) := dk_45 (dk_at dksL_law_91 1 rfl rfl)
theorem dL_law_2373 : decode cL_law 2373 = .ok (.invokestatic 320, 3) := dk_184 1 64 (dk_at dksL_law_91 2 rfl rfl)
theorem dL_law_2376 : decode cL_law 2376 = .ok (.istore 6, 2) := dk_54 6 (dk_at dksL_law_91 5 rfl rfl)
theorem dL_law_2378 : decode cL_law 2378 = .ok (.aload_n 2, 1) := dk_44 (dk_at dksL_law_91 7 rfl rfl)
theorem dL_law_2379 : decode cL_law 2379 = .ok (.aload_n 0, 1) := dk_42 (dk_at dksL_law_91 8 rfl rfl)
theorem dL_law_2380 : decode cL_law 2380 = .ok (.iload 5, 2) := dk_21 5 (dk_at dksL_law_91 9 rfl rfl)
theorem dL_law_2382 : decode cL_law 2382 = .ok (.iconst 1, 1) := dk_4 (dk_at dksL_law_91 11 rfl rfl)
theorem dL_law_2383 : decode cL_law 2383 = .ok (.iadd, 1) := dk_96 (dk_at dksL_law_91 12 rfl rfl)
theorem dL_law_2384 : decode cL_law 2384 = .ok (.iaload, 1) := dk_46 (dk_at dksL_law_91 13 rfl rfl)
theorem dL_law_2385 : decode cL_law 2385 = .ok (.aload_n 0, 1) := dk_42 (dk_at dksL_law_91 14 rfl rfl)
theorem dL_law_2386 : decode cL_law 2386 = .ok (.iload 5, 2) := dk_21 5 (dk_at dksL_law_91 15 rfl rfl)
theorem dL_law_2388 : decode cL_law 2388 = .ok (.iconst 2, 1) := dk_5 (dk_at dksL_law_91 17 rfl rfl)
theorem dL_law_2389 : decode cL_law 2389 = .ok (.iadd, 1) := dk_96 (dk_at dksL_law_91 18 rfl rfl)
theorem dL_law_2390 : decode cL_law 2390 = .ok (.iaload, 1) := dk_46 (dk_at dksL_law_91 19 rfl rfl)
theorem dL_law_2391 : decode cL_law 2391 = .ok (.invokevirtual 322, 3) := dk_182 1 66 (dk_at dksL_law_91 20 rfl rfl)
theorem dL_law_2394 : decode cL_law 2394 = .ok (.istore 7, 2) := dk_54 7 (dk_at dksL_law_92 0 rfl rfl)
theorem dL_law_2396 : decode cL_law 2396 = .ok (.aload_n 2, 1) := dk_44 (dk_at dksL_law_92 2 rfl rfl)
theorem dL_law_2397 : decode cL_law 2397 = .ok (.invokevirtual 216, 3) := dk_182 0 216 (dk_at dksL_law_92 3 rfl rfl)
theorem dL_law_2400 : decode cL_law 2400 = .ok (.iload 6, 2) := dk_21 6 (dk_at dksL_law_92 6 rfl rfl)
theorem dL_law_2402 : decode cL_law 2402 = .ok (.if_icmp .eq 5, 3) := dk_159 0 5 (dk_at dksL_law_92 8 rfl rfl)
theorem dL_law_2405 : decode cL_law 2405 = .ok (.iconst 0, 1) := dk_3 (dk_at dksL_law_92 11 rfl rfl)
theorem dL_law_2406 : decode cL_law 2406 = .ok (.ireturn, 1) := dk_172 (dk_at dksL_law_92 12 rfl rfl)
theorem dL_law_2407 : decode cL_law 2407 = .ok (.iload 6, 2) := dk_21 6 (dk_at dksL_law_92 13 rfl rfl)
theorem dL_law_2409 : decode cL_law 2409 = .ok (.ifCond .ne 15, 3) := dk_154 0 15 (dk_at dksL_law_92 15 rfl rfl)
theorem dL_law_2412 : decode cL_law 2412 = .ok (.aload_n 3, 1) := dk_45 (dk_at dksL_law_92 18 rfl rfl)
theorem dL_law_2413 : decode cL_law 2413 = .ok (.iconst 0, 1) := dk_3 (dk_at dksL_law_92 19 rfl rfl)
theorem dL_law_2414 : decode cL_law 2414 = .ok (.laload, 1) := dk_47 (dk_at dksL_law_92 20 rfl rfl)
theorem dL_law_2415 : decode cL_law 2415 = .ok (.iload 7, 2) := dk_21 7 (dk_at dksL_law_92 21 rfl rfl)
theorem dL_law_2417 : decode cL_law 2417 = .ok (.i2l, 1) := dk_133 (dk_at dksL_law_92 23 rfl rfl)
theorem dL_law_2418 : decode cL_law 2418 = .ok (.lcmp, 1) := dk_148 (dk_at dksL_law_93 0 rfl rfl)
theorem dL_law_2419 : decode cL_law 2419 = .ok (.ifCond .eq 5, 3) := dk_153 0 5 (dk_at dksL_law_93 1 rfl rfl)
theorem dL_law_2422 : decode cL_law 2422 = .ok (.iconst 0, 1) := dk_3 (dk_at dksL_law_93 4 rfl rfl)
theorem dL_law_2423 : decode cL_law 2423 = .ok (.ireturn, 1) := dk_172 (dk_at dksL_law_93 5 rfl rfl)
theorem dL_law_2424 : decode cL_law 2424 = .ok (.goto 1762, 3) := dk_167 6 226 (dk_at dksL_law_93 6 rfl rfl)
theorem dL_law_2427 : decode cL_law 2427 = .ok (.aload_n 1, 1) := dk_43 (dk_at dksL_law_93 9 rfl rfl)
theorem dL_law_2428 : decode cL_law 2428 = .ok (.aload_n 0, 1) := dk_42 (dk_at dksL_law_93 10 rfl rfl)
theorem dL_law_2429 : decode cL_law 2429 = .ok (.iload 5, 2) := dk_21 5 (dk_at dksL_law_93 11 rfl rfl)
theorem dL_law_2431 : decode cL_law 2431 = .ok (.iconst 1, 1) := dk_4 (dk_at dksL_law_93 13 rfl rfl)
theorem dL_law_2432 : decode cL_law 2432 = .ok (.iadd, 1) := dk_96 (dk_at dksL_law_93 14 rfl rfl)
theorem dL_law_2433 : decode cL_law 2433 = .ok (.iaload, 1) := dk_46 (dk_at dksL_law_93 15 rfl rfl)
theorem dL_law_2434 : decode cL_law 2434 = .ok (.aload_n 0, 1) := dk_42 (dk_at dksL_law_93 16 rfl rfl)
theorem dL_law_2435 : decode cL_law 2435 = .ok (.iload 5, 2) := dk_21 5 (dk_at dksL_law_93 17 rfl rfl)
theorem dL_law_2437 : decode cL_law 2437 = .ok (.iconst 2, 1) := dk_5 (dk_at dksL_law_93 19 rfl rfl)
theorem dL_law_2438 : decode cL_law 2438 = .ok (.iadd, 1) := dk_96 (dk_at dksL_law_93 20 rfl rfl)
theorem dL_law_2439 : decode cL_law 2439 = .ok (.iaload, 1) := dk_46 (dk_at dksL_law_93 21 rfl rfl)
theorem dL_law_2440 : decode cL_law 2440 = .ok (.aload_n 3, 1) := dk_45 (dk_at dksL_law_93 22 rfl rfl)
theorem dL_law_2441 : decode cL_law 2441 = .ok (.invokestatic 323, 3) := dk_184 1 67 (dk_at dksL_law_94 0 rfl rfl)
theorem dL_law_2444 : decode cL_law 2444 = .ok (.istore 6, 2) := dk_54 6 (dk_at dksL_law_94 3 rfl rfl)
theorem dL_law_2446 : decode cL_law 2446 = .ok (.aload_n 2, 1) := dk_44 (dk_at dksL_law_94 5 rfl rfl)
theorem dL_law_2447 : decode cL_law 2447 = .ok (.aload_n 0, 1) := dk_42 (dk_at dksL_law_94 6 rfl rfl)
theorem dL_law_2448 : decode cL_law 2448 = .ok (.iload 5, 2) := dk_21 5 (dk_at dksL_law_94 7 rfl rfl)
theorem dL_law_2450 : decode cL_law 2450 = .ok (.iconst 1, 1) := dk_4 (dk_at dksL_law_94 9 rfl rfl)
theorem dL_law_2451 : decode cL_law 2451 = .ok (.iadd, 1) := dk_96 (dk_at dksL_law_94 10 rfl rfl)
theorem dL_law_2452 : decode cL_law 2452 = .ok (.iaload, 1) := dk_46 (dk_at dksL_law_94 11 rfl rfl)
theorem dL_law_2453 : decode cL_law 2453 = .ok (.aload_n 0, 1) := dk_42 (dk_at dksL_law_94 12 rfl rfl)
theorem dL_law_2454 : decode cL_law 2454 = .ok (.iload 5, 2) := dk_21 5 (dk_at dksL_law_94 13 rfl rfl)
theorem dL_law_2456 : decode cL_law 2456 = .ok (.iconst 2, 1) := dk_5 (dk_at dksL_law_94 15 rfl rfl)
theorem dL_law_2457 : decode cL_law 2457 = .ok (.iadd, 1) := dk_96 (dk_at dksL_law_94 16 rfl rfl)
theorem dL_law_2458 : decode cL_law 2458 = .ok (.iaload, 1) := dk_46 (dk_at dksL_law_94 17 rfl rfl)
theorem dL_law_2459 : decode cL_law 2459 = .ok (.invokevirtual 325, 3) := dk_182 1 69 (dk_at dksL_law_94 18 rfl rfl)
theorem dL_law_2462 : decode cL_law 2462 = .ok (.istore 7, 2) := dk_54 7 (dk_at dksL_law_94 21 rfl rfl)
theorem dL_law_2464 : decode cL_law 2464 = .ok (.aload_n 2, 1) := dk_44 (dk_at dksL_law_94 23 rfl rfl)
theorem dL_law_2465 : decode cL_law 2465 = .ok (.invokevirtual 216, 3) := dk_182 0 216 (dk_at dksL_law_95 0 rfl rfl)
theorem dL_law_2468 : decode cL_law 2468 = .ok (.iload 6, 2) := dk_21 6 (dk_at dksL_law_95 3 rfl rfl)
theorem dL_law_2470 : decode cL_law 2470 = .ok (.if_icmp .eq 5, 3) := dk_159 0 5 (dk_at dksL_law_95 5 rfl rfl)
theorem dL_law_2473 : decode cL_law 2473 = .ok (.iconst 0, 1) := dk_3 (dk_at dksL_law_95 8 rfl rfl)
theorem dL_law_2474 : decode cL_law 2474 = .ok (.ireturn, 1) := dk_172 (dk_at dksL_law_95 9 rfl rfl)
theorem dL_law_2475 : decode cL_law 2475 = .ok (.iload 6, 2) := dk_21 6 (dk_at dksL_law_95 10 rfl rfl)
theorem dL_law_2477 : decode cL_law 2477 = .ok (.ifCond .ne 15, 3) := dk_154 0 15 (dk_at dksL_law_95 12 rfl rfl)
theorem dL_law_2480 : decode cL_law 2480 = .ok (.aload_n 3, 1) := dk_45 (dk_at dksL_law_95 15 rfl rfl)
theorem dL_law_2481 : decode cL_law 2481 = .ok (.iconst 0, 1) := dk_3 (dk_at dksL_law_95 16 rfl rfl)
theorem dL_law_2482 : decode cL_law 2482 = .ok (.laload, 1) := dk_47 (dk_at dksL_law_95 17 rfl rfl)
theorem dL_law_2483 : decode cL_law 2483 = .ok (.iload 7, 2) := dk_21 7 (dk_at dksL_law_95 18 rfl rfl)
theorem dL_law_2485 : decode cL_law 2485 = .ok (.i2l, 1) := dk_133 (dk_at dksL_law_95 20 rfl rfl)
theorem dL_law_2486 : decode cL_law 2486 = .ok (.lcmp, 1) := dk_148 (dk_at dksL_law_95 21 rfl rfl)
theorem dL_law_2487 : decode cL_law 2487 = .ok (.ifCond .eq 5, 3) := dk_153 0 5 (dk_at dksL_law_96 0 rfl rfl)
theorem dL_law_2490 : decode cL_law 2490 = .ok (.iconst 0, 1) := dk_3 (dk_at dksL_law_96 3 rfl rfl)
theorem dL_law_2491 : decode cL_law 2491 = .ok (.ireturn, 1) := dk_172 (dk_at dksL_law_96 4 rfl rfl)
theorem dL_law_2492 : decode cL_law 2492 = .ok (.goto 1694, 3) := dk_167 6 158 (dk_at dksL_law_96 5 rfl rfl)
theorem dL_law_2495 : decode cL_law 2495 = .ok (.aload_n 1, 1) := dk_43 (dk_at dksL_law_96 8 rfl rfl)
theorem dL_law_2496 : decode cL_law 2496 = .ok (.aload_n 0, 1) := dk_42 (dk_at dksL_law_96 9 rfl rfl)
theorem dL_law_2497 : decode cL_law 2497 = .ok (.iload 5, 2) := dk_21 5 (dk_at dksL_law_96 10 rfl rfl)
theorem dL_law_2499 : decode cL_law 2499 = .ok (.iconst 1, 1) := dk_4 (dk_at dksL_law_96 12 rfl rfl)
theorem dL_law_2500 : decode cL_law 2500 = .ok (.iadd, 1) := dk_96 (dk_at dksL_law_96 13 rfl rfl)
theorem dL_law_2501 : decode cL_law 2501 = .ok (.iaload, 1) := dk_46 (dk_at dksL_law_96 14 rfl rfl)
theorem dL_law_2502 : decode cL_law 2502 = .ok (.aload_n 0, 1) := dk_42 (dk_at dksL_law_96 15 rfl rfl)
theorem dL_law_2503 : decode cL_law 2503 = .ok (.iload 5, 2) := dk_21 5 (dk_at dksL_law_96 16 rfl rfl)
theorem dL_law_2505 : decode cL_law 2505 = .ok (.iconst 2, 1) := dk_5 (dk_at dksL_law_96 18 rfl rfl)
theorem dL_law_2506 : decode cL_law 2506 = .ok (.iadd, 1) := dk_96 (dk_at dksL_law_96 19 rfl rfl)
theorem dL_law_2507 : decode cL_law 2507 = .ok (.iaload, 1) := dk_46 (dk_at dksL_law_96 20 rfl rfl)
theorem dL_law_2508 : decode cL_law 2508 = .ok (.aload_n 0, 1) := dk_42 (dk_at dksL_law_96 21 rfl rfl)
theorem dL_law_2509 : decode cL_law 2509 = .ok (.iload 5, 2) := dk_21 5 (dk_at dksL_law_96 22 rfl rfl)
theorem dL_law_2511 : decode cL_law 2511 = .ok (.iconst 3, 1) := dk_6 (dk_at dksL_law_97 0 rfl rfl)
theorem dL_law_2512 : decode cL_law 2512 = .ok (.iadd, 1) := dk_96 (dk_at dksL_law_97 1 rfl rfl)
theorem dL_law_2513 : decode cL_law 2513 = .ok (.iaload, 1) := dk_46 (dk_at dksL_law_97 2 rfl rfl)
theorem dL_law_2514 : decode cL_law 2514 = .ok (.aload_n 0, 1) := dk_42 (dk_at dksL_law_97 3 rfl rfl)
theorem dL_law_2515 : decode cL_law 2515 = .ok (.iload 5, 2) := dk_21 5 (dk_at dksL_law_97 4 rfl rfl)
theorem dL_law_2517 : decode cL_law 2517 = .ok (.iconst 4, 1) := dk_7 (dk_at dksL_law_97 6 rfl rfl)
theorem dL_law_2518 : decode cL_law 2518 = .ok (.iadd, 1) := dk_96 (dk_at dksL_law_97 7 rfl rfl)
theorem dL_law_2519 : decode cL_law 2519 = .ok (.iaload, 1) := dk_46 (dk_at dksL_law_97 8 rfl rfl)
theorem dL_law_2520 : decode cL_law 2520 = .ok (.aload_n 3, 1) := dk_45 (dk_at dksL_law_97 9 rfl rfl)
theorem dL_law_2521 : decode cL_law 2521 = .ok (.invokestatic 326, 3) := dk_184 1 70 (dk_at dksL_law_97 10 rfl rfl)
theorem dL_law_2524 : decode cL_law 2524 = .ok (.istore 6, 2) := dk_54 6 (dk_at dksL_law_97 13 rfl rfl)
theorem dL_law_2526 : decode cL_law 2526 = .ok (.aload_n 2, 1) := dk_44 (dk_at dksL_law_97 15 rfl rfl)
theorem dL_law_2527 : decode cL_law 2527 = .ok (.aload_n 0, 1) := dk_42 (dk_at dksL_law_97 16 rfl rfl)
theorem dL_law_2528 : decode cL_law 2528 = .ok (.iload 5, 2) := dk_21 5 (dk_at dksL_law_97 17 rfl rfl)
theorem dL_law_2530 : decode cL_law 2530 = .ok (.iconst 1, 1) := dk_4 (dk_at dksL_law_97 19 rfl rfl)
theorem dL_law_2531 : decode cL_law 2531 = .ok (.iadd, 1) := dk_96 (dk_at dksL_law_97 20 rfl rfl)
theorem dL_law_2532 : decode cL_law 2532 = .ok (.iaload, 1) := dk_46 (dk_at dksL_law_97 21 rfl rfl)
theorem dL_law_2533 : decode cL_law 2533 = .ok (.aload_n 0, 1) := dk_42 (dk_at dksL_law_97 22 rfl rfl)
theorem dL_law_2534 : decode cL_law 2534 = .ok (.iload 5, 2) := dk_21 5 (dk_at dksL_law_98 0 rfl rfl)
theorem dL_law_2536 : decode cL_law 2536 = .ok (.iconst 2, 1) := dk_5 (dk_at dksL_law_98 2 rfl rfl)
theorem dL_law_2537 : decode cL_law 2537 = .ok (.iadd, 1) := dk_96 (dk_at dksL_law_98 3 rfl rfl)
theorem dL_law_2538 : decode cL_law 2538 = .ok (.iaload, 1) := dk_46 (dk_at dksL_law_98 4 rfl rfl)
theorem dL_law_2539 : decode cL_law 2539 = .ok (.aload_n 0, 1) := dk_42 (dk_at dksL_law_98 5 rfl rfl)
theorem dL_law_2540 : decode cL_law 2540 = .ok (.iload 5, 2) := dk_21 5 (dk_at dksL_law_98 6 rfl rfl)
theorem dL_law_2542 : decode cL_law 2542 = .ok (.iconst 3, 1) := dk_6 (dk_at dksL_law_98 8 rfl rfl)
theorem dL_law_2543 : decode cL_law 2543 = .ok (.iadd, 1) := dk_96 (dk_at dksL_law_98 9 rfl rfl)
theorem dL_law_2544 : decode cL_law 2544 = .ok (.iaload, 1) := dk_46 (dk_at dksL_law_98 10 rfl rfl)
theorem dL_law_2545 : decode cL_law 2545 = .ok (.aload_n 0, 1) := dk_42 (dk_at dksL_law_98 11 rfl rfl)
theorem dL_law_2546 : decode cL_law 2546 = .ok (.iload 5, 2) := dk_21 5 (dk_at dksL_law_98 12 rfl rfl)
theorem dL_law_2548 : decode cL_law 2548 = .ok (.iconst 4, 1) := dk_7 (dk_at dksL_law_98 14 rfl rfl)
theorem dL_law_2549 : decode cL_law 2549 = .ok (.iadd, 1) := dk_96 (dk_at dksL_law_98 15 rfl rfl)
theorem dL_law_2550 : decode cL_law 2550 = .ok (.iaload, 1) := dk_46 (dk_at dksL_law_98 16 rfl rfl)
theorem dL_law_2551 : decode cL_law 2551 = .ok (.invokevirtual 328, 3) := dk_182 1 72 (dk_at dksL_law_98 17 rfl rfl)
theorem dL_law_2554 : decode cL_law 2554 = .ok (.istore 7, 2) := dk_54 7 (dk_at dksL_law_98 20 rfl rfl)
theorem dL_law_2556 : decode cL_law 2556 = .ok (.aload_n 2, 1) := dk_44 (dk_at dksL_law_98 22 rfl rfl)
theorem dL_law_2557 : decode cL_law 2557 = .ok (.invokevirtual 216, 3) := dk_182 0 216 (dk_at dksL_law_99 0 rfl rfl)
theorem dL_law_2560 : decode cL_law 2560 = .ok (.iload 6, 2) := dk_21 6 (dk_at dksL_law_99 3 rfl rfl)
theorem dL_law_2562 : decode cL_law 2562 = .ok (.if_icmp .eq 5, 3) := dk_159 0 5 (dk_at dksL_law_99 5 rfl rfl)
theorem dL_law_2565 : decode cL_law 2565 = .ok (.iconst 0, 1) := dk_3 (dk_at dksL_law_99 8 rfl rfl)
theorem dL_law_2566 : decode cL_law 2566 = .ok (.ireturn, 1) := dk_172 (dk_at dksL_law_99 9 rfl rfl)
theorem dL_law_2567 : decode cL_law 2567 = .ok (.iload 6, 2) := dk_21 6 (dk_at dksL_law_99 10 rfl rfl)
theorem dL_law_2569 : decode cL_law 2569 = .ok (.ifCond .ne 15, 3) := dk_154 0 15 (dk_at dksL_law_99 12 rfl rfl)
theorem dL_law_2572 : decode cL_law 2572 = .ok (.aload_n 3, 1) := dk_45 (dk_at dksL_law_99 15 rfl rfl)
theorem dL_law_2573 : decode cL_law 2573 = .ok (.iconst 0, 1) := dk_3 (dk_at dksL_law_99 16 rfl rfl)
theorem dL_law_2574 : decode cL_law 2574 = .ok (.laload, 1) := dk_47 (dk_at dksL_law_99 17 rfl rfl)
theorem dL_law_2575 : decode cL_law 2575 = .ok (.iload 7, 2) := dk_21 7 (dk_at dksL_law_99 18 rfl rfl)
theorem dL_law_2577 : decode cL_law 2577 = .ok (.i2l, 1) := dk_133 (dk_at dksL_law_99 20 rfl rfl)
theorem dL_law_2578 : decode cL_law 2578 = .ok (.lcmp, 1) := dk_148 (dk_at dksL_law_99 21 rfl rfl)
theorem dL_law_2579 : decode cL_law 2579 = .ok (.ifCond .eq 5, 3) := dk_153 0 5 (dk_at dksL_law_100 0 rfl rfl)
theorem dL_law_2582 : decode cL_law 2582 = .ok (.iconst 0, 1) := dk_3 (dk_at dksL_law_100 3 rfl rfl)
theorem dL_law_2583 : decode cL_law 2583 = .ok (.ireturn, 1) := dk_172 (dk_at dksL_law_100 4 rfl rfl)
theorem dL_law_2584 : decode cL_law 2584 = .ok (.goto 1602, 3) := dk_167 6 66 (dk_at dksL_law_100 5 rfl rfl)
theorem dL_law_2587 : decode cL_law 2587 = .ok (.aload_n 1, 1) := dk_43 (dk_at dksL_law_100 8 rfl rfl)
theorem dL_law_2588 : decode cL_law 2588 = .ok (.aload_n 0, 1) := dk_42 (dk_at dksL_law_100 9 rfl rfl)
theorem dL_law_2589 : decode cL_law 2589 = .ok (.iload 5, 2) := dk_21 5 (dk_at dksL_law_100 10 rfl rfl)
theorem dL_law_2591 : decode cL_law 2591 = .ok (.iconst 1, 1) := dk_4 (dk_at dksL_law_100 12 rfl rfl)
theorem dL_law_2592 : decode cL_law 2592 = .ok (.iadd, 1) := dk_96 (dk_at dksL_law_100 13 rfl rfl)
theorem dL_law_2593 : decode cL_law 2593 = .ok (.iaload, 1) := dk_46 (dk_at dksL_law_100 14 rfl rfl)
theorem dL_law_2594 : decode cL_law 2594 = .ok (.aload_n 0, 1) := dk_42 (dk_at dksL_law_100 15 rfl rfl)
theorem dL_law_2595 : decode cL_law 2595 = .ok (.iload 5, 2) := dk_21 5 (dk_at dksL_law_100 16 rfl rfl)
theorem dL_law_2597 : decode cL_law 2597 = .ok (.iconst 2, 1) := dk_5 (dk_at dksL_law_100 18 rfl rfl)
theorem dL_law_2598 : decode cL_law 2598 = .ok (.iadd, 1) := dk_96 (dk_at dksL_law_100 19 rfl rfl)
theorem dL_law_2599 : decode cL_law 2599 = .ok (.iaload, 1) := dk_46 (dk_at dksL_law_100 20 rfl rfl)
theorem dL_law_2600 : decode cL_law 2600 = .ok (.aload_n 3, 1) := dk_45 (dk_at dksL_law_100 21 rfl rfl)
theorem dL_law_2601 : decode cL_law 2601 = .ok (.invokestatic 329, 3) := dk_184 1 73 (dk_at dksL_law_101 0 rfl rfl)
theorem dL_law_2604 : decode cL_law 2604 = .ok (.istore 6, 2) := dk_54 6 (dk_at dksL_law_101 3 rfl rfl)
theorem dL_law_2606 : decode cL_law 2606 = .ok (.aload_n 2, 1) := dk_44 (dk_at dksL_law_101 5 rfl rfl)
theorem dL_law_2607 : decode cL_law 2607 = .ok (.aload_n 0, 1) := dk_42 (dk_at dksL_law_101 6 rfl rfl)
theorem dL_law_2608 : decode cL_law 2608 = .ok (.iload 5, 2) := dk_21 5 (dk_at dksL_law_101 7 rfl rfl)
theorem dL_law_2610 : decode cL_law 2610 = .ok (.iconst 1, 1) := dk_4 (dk_at dksL_law_101 9 rfl rfl)
theorem dL_law_2611 : decode cL_law 2611 = .ok (.iadd, 1) := dk_96 (dk_at dksL_law_101 10 rfl rfl)
theorem dL_law_2612 : decode cL_law 2612 = .ok (.iaload, 1) := dk_46 (dk_at dksL_law_101 11 rfl rfl)
theorem dL_law_2613 : decode cL_law 2613 = .ok (.aload_n 0, 1) := dk_42 (dk_at dksL_law_101 12 rfl rfl)
theorem dL_law_2614 : decode cL_law 2614 = .ok (.iload 5, 2) := dk_21 5 (dk_at dksL_law_101 13 rfl rfl)
theorem dL_law_2616 : decode cL_law 2616 = .ok (.iconst 2, 1) := dk_5 (dk_at dksL_law_101 15 rfl rfl)
theorem dL_law_2617 : decode cL_law 2617 = .ok (.iadd, 1) := dk_96 (dk_at dksL_law_101 16 rfl rfl)
theorem dL_law_2618 : decode cL_law 2618 = .ok (.iaload, 1) := dk_46 (dk_at dksL_law_101 17 rfl rfl)
theorem dL_law_2619 : decode cL_law 2619 = .ok (.invokevirtual 331, 3) := dk_182 1 75 (dk_at dksL_law_101 18 rfl rfl)
theorem dL_law_2622 : decode cL_law 2622 = .ok (.istore 7, 2) := dk_54 7 (dk_at dksL_law_101 21 rfl rfl)
theorem dL_law_2624 : decode cL_law 2624 = .ok (.aload_n 2, 1) := dk_44 (dk_at dksL_law_101 23 rfl rfl)
theorem dL_law_2625 : decode cL_law 2625 = .ok (.invokevirtual 216, 3) := dk_182 0 216 (dk_at dksL_law_102 0 rfl rfl)
theorem dL_law_2628 : decode cL_law 2628 = .ok (.iload 6, 2) := dk_21 6 (dk_at dksL_law_102 3 rfl rfl)
theorem dL_law_2630 : decode cL_law 2630 = .ok (.if_icmp .eq 5, 3) := dk_159 0 5 (dk_at dksL_law_102 5 rfl rfl)
theorem dL_law_2633 : decode cL_law 2633 = .ok (.iconst 0, 1) := dk_3 (dk_at dksL_law_102 8 rfl rfl)
theorem dL_law_2634 : decode cL_law 2634 = .ok (.ireturn, 1) := dk_172 (dk_at dksL_law_102 9 rfl rfl)
theorem dL_law_2635 : decode cL_law 2635 = .ok (.iload 6, 2) := dk_21 6 (dk_at dksL_law_102 10 rfl rfl)
theorem dL_law_2637 : decode cL_law 2637 = .ok (.ifCond .ne 22, 3) := dk_154 0 22 (dk_at dksL_law_102 12 rfl rfl)
theorem dL_law_2640 : decode cL_law 2640 = .ok (.aload_n 3, 1) := dk_45 (dk_at dksL_law_102 15 rfl rfl)
theorem dL_law_2641 : decode cL_law 2641 = .ok (.iconst 0, 1) := dk_3 (dk_at dksL_law_102 16 rfl rfl)
theorem dL_law_2642 : decode cL_law 2642 = .ok (.laload, 1) := dk_47 (dk_at dksL_law_102 17 rfl rfl)
theorem dL_law_2643 : decode cL_law 2643 = .ok (.iload 7, 2) := dk_21 7 (dk_at dksL_law_102 18 rfl rfl)
theorem dL_law_2645 : decode cL_law 2645 = .ok (.ifCond .eq 7, 3) := dk_153 0 7 (dk_at dksL_law_102 20 rfl rfl)
theorem dL_law_2648 : decode cL_law 2648 = .ok (.lconst 1, 1) := dk_10 (dk_at dksL_law_102 23 rfl rfl)
theorem dL_law_2649 : decode cL_law 2649 = .ok (.goto 4, 3) := dk_167 0 4 (dk_at dksL_law_103 0 rfl rfl)
theorem dL_law_2652 : decode cL_law 2652 = .ok (.lconst 0, 1) := dk_9 (dk_at dksL_law_103 3 rfl rfl)
theorem dL_law_2653 : decode cL_law 2653 = .ok (.lcmp, 1) := dk_148 (dk_at dksL_law_103 4 rfl rfl)
theorem dL_law_2654 : decode cL_law 2654 = .ok (.ifCond .eq 5, 3) := dk_153 0 5 (dk_at dksL_law_103 5 rfl rfl)
theorem dL_law_2657 : decode cL_law 2657 = .ok (.iconst 0, 1) := dk_3 (dk_at dksL_law_103 8 rfl rfl)
theorem dL_law_2658 : decode cL_law 2658 = .ok (.ireturn, 1) := dk_172 (dk_at dksL_law_103 9 rfl rfl)
theorem dL_law_2659 : decode cL_law 2659 = .ok (.goto 1527, 3) := dk_167 5 247 (dk_at dksL_law_103 10 rfl rfl)
theorem dL_law_2662 : decode cL_law 2662 = .ok (.aload_n 1, 1) := dk_43 (dk_at dksL_law_103 13 rfl rfl)
theorem dL_law_2663 : decode cL_law 2663 = .ok (.aload_n 0, 1) := dk_42 (dk_at dksL_law_103 14 rfl rfl)
theorem dL_law_2664 : decode cL_law 2664 = .ok (.iload 5, 2) := dk_21 5 (dk_at dksL_law_103 15 rfl rfl)
theorem dL_law_2666 : decode cL_law 2666 = .ok (.iconst 1, 1) := dk_4 (dk_at dksL_law_103 17 rfl rfl)
theorem dL_law_2667 : decode cL_law 2667 = .ok (.iadd, 1) := dk_96 (dk_at dksL_law_103 18 rfl rfl)
theorem dL_law_2668 : decode cL_law 2668 = .ok (.iaload, 1) := dk_46 (dk_at dksL_law_103 19 rfl rfl)
theorem dL_law_2669 : decode cL_law 2669 = .ok (.aload_n 3, 1) := dk_45 (dk_at dksL_law_103 20 rfl rfl)
theorem dL_law_2670 : decode cL_law 2670 = .ok (.invokestatic 332, 3) := dk_184 1 76 (dk_at dksL_law_103 21 rfl rfl)
theorem dL_law_2673 : decode cL_law 2673 = .ok (.istore 6, 2) := dk_54 6 (dk_at dksL_law_104 0 rfl rfl)
theorem dL_law_2675 : decode cL_law 2675 = .ok (.aload_n 2, 1) := dk_44 (dk_at dksL_law_104 2 rfl rfl)
theorem dL_law_2676 : decode cL_law 2676 = .ok (.aload_n 0, 1) := dk_42 (dk_at dksL_law_104 3 rfl rfl)
theorem dL_law_2677 : decode cL_law 2677 = .ok (.iload 5, 2) := dk_21 5 (dk_at dksL_law_104 4 rfl rfl)
theorem dL_law_2679 : decode cL_law 2679 = .ok (.iconst 1, 1) := dk_4 (dk_at dksL_law_104 6 rfl rfl)
theorem dL_law_2680 : decode cL_law 2680 = .ok (.iadd, 1) := dk_96 (dk_at dksL_law_104 7 rfl rfl)
theorem dL_law_2681 : decode cL_law 2681 = .ok (.iaload, 1) := dk_46 (dk_at dksL_law_104 8 rfl rfl)
theorem dL_law_2682 : decode cL_law 2682 = .ok (.invokevirtual 334, 3) := dk_182 1 78 (dk_at dksL_law_104 9 rfl rfl)
theorem dL_law_2685 : decode cL_law 2685 = .ok (.istore 7, 2) := dk_54 7 (dk_at dksL_law_104 12 rfl rfl)
theorem dL_law_2687 : decode cL_law 2687 = .ok (.aload_n 2, 1) := dk_44 (dk_at dksL_law_104 14 rfl rfl)
theorem dL_law_2688 : decode cL_law 2688 = .ok (.invokevirtual 216, 3) := dk_182 0 216 (dk_at dksL_law_104 15 rfl rfl)
theorem dL_law_2691 : decode cL_law 2691 = .ok (.iload 6, 2) := dk_21 6 (dk_at dksL_law_104 18 rfl rfl)
theorem dL_law_2693 : decode cL_law 2693 = .ok (.if_icmp .eq 5, 3) := dk_159 0 5 (dk_at dksL_law_104 20 rfl rfl)
theorem dL_law_2696 : decode cL_law 2696 = .ok (.iconst 0, 1) := dk_3 (dk_at dksL_law_104 23 rfl rfl)
theorem dL_law_2697 : decode cL_law 2697 = .ok (.ireturn, 1) := dk_172 (dk_at dksL_law_105 0 rfl rfl)
theorem dL_law_2698 : decode cL_law 2698 = .ok (.iload 6, 2) := dk_21 6 (dk_at dksL_law_105 1 rfl rfl)
theorem dL_law_2700 : decode cL_law 2700 = .ok (.ifCond .ne 15, 3) := dk_154 0 15 (dk_at dksL_law_105 3 rfl rfl)
theorem dL_law_2703 : decode cL_law 2703 = .ok (.aload_n 3, 1) := dk_45 (dk_at dksL_law_105 6 rfl rfl)
theorem dL_law_2704 : decode cL_law 2704 = .ok (.iconst 0, 1) := dk_3 (dk_at dksL_law_105 7 rfl rfl)
theorem dL_law_2705 : decode cL_law 2705 = .ok (.laload, 1) := dk_47 (dk_at dksL_law_105 8 rfl rfl)
theorem dL_law_2706 : decode cL_law 2706 = .ok (.iload 7, 2) := dk_21 7 (dk_at dksL_law_105 9 rfl rfl)
theorem dL_law_2708 : decode cL_law 2708 = .ok (.i2l, 1) := dk_133 (dk_at dksL_law_105 11 rfl rfl)
theorem dL_law_2709 : decode cL_law 2709 = .ok (.lcmp, 1) := dk_148 (dk_at dksL_law_105 12 rfl rfl)
theorem dL_law_2710 : decode cL_law 2710 = .ok (.ifCond .eq 5, 3) := dk_153 0 5 (dk_at dksL_law_105 13 rfl rfl)
theorem dL_law_2713 : decode cL_law 2713 = .ok (.iconst 0, 1) := dk_3 (dk_at dksL_law_105 16 rfl rfl)
theorem dL_law_2714 : decode cL_law 2714 = .ok (.ireturn, 1) := dk_172 (dk_at dksL_law_105 17 rfl rfl)
theorem dL_law_2715 : decode cL_law 2715 = .ok (.goto 1471, 3) := dk_167 5 191 (dk_at dksL_law_105 18 rfl rfl)
theorem dL_law_2718 : decode cL_law 2718 = .ok (.aload_n 1, 1) := dk_43 (dk_at dksL_law_105 21 rfl rfl)
theorem dL_law_2719 : decode cL_law 2719 = .ok (.aload_n 0, 1) := dk_42 (dk_at dksL_law_105 22 rfl rfl)
theorem dL_law_2720 : decode cL_law 2720 = .ok (.iload 5, 2) := dk_21 5 (dk_at dksL_law_106 0 rfl rfl)
theorem dL_law_2722 : decode cL_law 2722 = .ok (.iconst 1, 1) := dk_4 (dk_at dksL_law_106 2 rfl rfl)
theorem dL_law_2723 : decode cL_law 2723 = .ok (.iadd, 1) := dk_96 (dk_at dksL_law_106 3 rfl rfl)
theorem dL_law_2724 : decode cL_law 2724 = .ok (.iaload, 1) := dk_46 (dk_at dksL_law_106 4 rfl rfl)
theorem dL_law_2725 : decode cL_law 2725 = .ok (.aload_n 3, 1) := dk_45 (dk_at dksL_law_106 5 rfl rfl)
theorem dL_law_2726 : decode cL_law 2726 = .ok (.invokestatic 335, 3) := dk_184 1 79 (dk_at dksL_law_106 6 rfl rfl)
theorem dL_law_2729 : decode cL_law 2729 = .ok (.istore 6, 2) := dk_54 6 (dk_at dksL_law_106 9 rfl rfl)
theorem dL_law_2731 : decode cL_law 2731 = .ok (.aload_n 2, 1) := dk_44 (dk_at dksL_law_106 11 rfl rfl)
theorem dL_law_2732 : decode cL_law 2732 = .ok (.aload_n 0, 1) := dk_42 (dk_at dksL_law_106 12 rfl rfl)
theorem dL_law_2733 : decode cL_law 2733 = .ok (.iload 5, 2) := dk_21 5 (dk_at dksL_law_106 13 rfl rfl)
theorem dL_law_2735 : decode cL_law 2735 = .ok (.iconst 1, 1) := dk_4 (dk_at dksL_law_106 15 rfl rfl)
theorem dL_law_2736 : decode cL_law 2736 = .ok (.iadd, 1) := dk_96 (dk_at dksL_law_106 16 rfl rfl)
theorem dL_law_2737 : decode cL_law 2737 = .ok (.iaload, 1) := dk_46 (dk_at dksL_law_106 17 rfl rfl)
theorem dL_law_2738 : decode cL_law 2738 = .ok (.invokevirtual 337, 3) := dk_182 1 81 (dk_at dksL_law_106 18 rfl rfl)
theorem dL_law_2741 : decode cL_law 2741 = .ok (.istore 7, 2) := dk_54 7 (dk_at dksL_law_106 21 rfl rfl)
theorem dL_law_2743 : decode cL_law 2743 = .ok (.aload_n 2, 1) := dk_44 (dk_at dksL_law_106 23 rfl rfl)
theorem dL_law_2744 : decode cL_law 2744 = .ok (.invokevirtual 216, 3) := dk_182 0 216 (dk_at dksL_law_107 0 rfl rfl)
theorem dL_law_2747 : decode cL_law 2747 = .ok (.iload 6, 2) := dk_21 6 (dk_at dksL_law_107 3 rfl rfl)
theorem dL_law_2749 : decode cL_law 2749 = .ok (.if_icmp .eq 5, 3) := dk_159 0 5 (dk_at dksL_law_107 5 rfl rfl)
theorem dL_law_2752 : decode cL_law 2752 = .ok (.iconst 0, 1) := dk_3 (dk_at dksL_law_107 8 rfl rfl)
theorem dL_law_2753 : decode cL_law 2753 = .ok (.ireturn, 1) := dk_172 (dk_at dksL_law_107 9 rfl rfl)
theorem dL_law_2754 : decode cL_law 2754 = .ok (.iload 6, 2) := dk_21 6 (dk_at dksL_law_107 10 rfl rfl)
theorem dL_law_2756 : decode cL_law 2756 = .ok (.ifCond .ne 15, 3) := dk_154 0 15 (dk_at dksL_law_107 12 rfl rfl)
theorem dL_law_2759 : decode cL_law 2759 = .ok (.aload_n 3, 1) := dk_45 (dk_at dksL_law_107 15 rfl rfl)
theorem dL_law_2760 : decode cL_law 2760 = .ok (.iconst 0, 1) := dk_3 (dk_at dksL_law_107 16 rfl rfl)
theorem dL_law_2761 : decode cL_law 2761 = .ok (.laload, 1) := dk_47 (dk_at dksL_law_107 17 rfl rfl)
theorem dL_law_2762 : decode cL_law 2762 = .ok (.iload 7, 2) := dk_21 7 (dk_at dksL_law_107 18 rfl rfl)
theorem dL_law_2764 : decode cL_law 2764 = .ok (.i2l, 1) := dk_133 (dk_at dksL_law_107 20 rfl rfl)
theorem dL_law_2765 : decode cL_law 2765 = .ok (.lcmp, 1) := dk_148 (dk_at dksL_law_107 21 rfl rfl)
theorem dL_law_2766 : decode cL_law 2766 = .ok (.ifCond .eq 5, 3) := dk_153 0 5 (dk_at dksL_law_108 0 rfl rfl)
theorem dL_law_2769 : decode cL_law 2769 = .ok (.iconst 0, 1) := dk_3 (dk_at dksL_law_108 3 rfl rfl)
theorem dL_law_2770 : decode cL_law 2770 = .ok (.ireturn, 1) := dk_172 (dk_at dksL_law_108 4 rfl rfl)
theorem dL_law_2771 : decode cL_law 2771 = .ok (.goto 1415, 3) := dk_167 5 135 (dk_at dksL_law_108 5 rfl rfl)
theorem dL_law_2774 : decode cL_law 2774 = .ok (.aload_n 1, 1) := dk_43 (dk_at dksL_law_108 8 rfl rfl)
theorem dL_law_2775 : decode cL_law 2775 = .ok (.aload_n 0, 1) := dk_42 (dk_at dksL_law_108 9 rfl rfl)
theorem dL_law_2776 : decode cL_law 2776 = .ok (.iload 5, 2) := dk_21 5 (dk_at dksL_law_108 10 rfl rfl)
theorem dL_law_2778 : decode cL_law 2778 = .ok (.iconst 1, 1) := dk_4 (dk_at dksL_law_108 12 rfl rfl)
theorem dL_law_2779 : decode cL_law 2779 = .ok (.iadd, 1) := dk_96 (dk_at dksL_law_108 13 rfl rfl)
theorem dL_law_2780 : decode cL_law 2780 = .ok (.iaload, 1) := dk_46 (dk_at dksL_law_108 14 rfl rfl)
theorem dL_law_2781 : decode cL_law 2781 = .ok (.aload_n 3, 1) := dk_45 (dk_at dksL_law_108 15 rfl rfl)
theorem dL_law_2782 : decode cL_law 2782 = .ok (.invokestatic 338, 3) := dk_184 1 82 (dk_at dksL_law_108 16 rfl rfl)
theorem dL_law_2785 : decode cL_law 2785 = .ok (.istore 6, 2) := dk_54 6 (dk_at dksL_law_108 19 rfl rfl)
theorem dL_law_2787 : decode cL_law 2787 = .ok (.aload_n 2, 1) := dk_44 (dk_at dksL_law_108 21 rfl rfl)
theorem dL_law_2788 : decode cL_law 2788 = .ok (.aload_n 0, 1) := dk_42 (dk_at dksL_law_108 22 rfl rfl)
theorem dL_law_2789 : decode cL_law 2789 = .ok (.iload 5, 2) := dk_21 5 (dk_at dksL_law_109 0 rfl rfl)
theorem dL_law_2791 : decode cL_law 2791 = .ok (.iconst 1, 1) := dk_4 (dk_at dksL_law_109 2 rfl rfl)
theorem dL_law_2792 : decode cL_law 2792 = .ok (.iadd, 1) := dk_96 (dk_at dksL_law_109 3 rfl rfl)
theorem dL_law_2793 : decode cL_law 2793 = .ok (.iaload, 1) := dk_46 (dk_at dksL_law_109 4 rfl rfl)
theorem dL_law_2794 : decode cL_law 2794 = .ok (.invokevirtual 340, 3) := dk_182 1 84 (dk_at dksL_law_109 5 rfl rfl)
theorem dL_law_2797 : decode cL_law 2797 = .ok (.istore 7, 2) := dk_54 7 (dk_at dksL_law_109 8 rfl rfl)
theorem dL_law_2799 : decode cL_law 2799 = .ok (.aload_n 2, 1) := dk_44 (dk_at dksL_law_109 10 rfl rfl)
theorem dL_law_2800 : decode cL_law 2800 = .ok (.invokevirtual 216, 3) := dk_182 0 216 (dk_at dksL_law_109 11 rfl rfl)
theorem dL_law_2803 : decode cL_law 2803 = .ok (.iload 6, 2) := dk_21 6 (dk_at dksL_law_109 14 rfl rfl)
theorem dL_law_2805 : decode cL_law 2805 = .ok (.if_icmp .eq 5, 3) := dk_159 0 5 (dk_at dksL_law_109 16 rfl rfl)
theorem dL_law_2808 : decode cL_law 2808 = .ok (.iconst 0, 1) := dk_3 (dk_at dksL_law_109 19 rfl rfl)
theorem dL_law_2809 : decode cL_law 2809 = .ok (.ireturn, 1) := dk_172 (dk_at dksL_law_109 20 rfl rfl)
theorem dL_law_2810 : decode cL_law 2810 = .ok (.iload 6, 2) := dk_21 6 (dk_at dksL_law_109 21 rfl rfl)
theorem dL_law_2812 : decode cL_law 2812 = .ok (.ifCond .ne 15, 3) := dk_154 0 15 (dk_at dksL_law_110 0 rfl rfl)
theorem dL_law_2815 : decode cL_law 2815 = .ok (.aload_n 3, 1) := dk_45 (dk_at dksL_law_110 3 rfl rfl)
theorem dL_law_2816 : decode cL_law 2816 = .ok (.iconst 0, 1) := dk_3 (dk_at dksL_law_110 4 rfl rfl)
theorem dL_law_2817 : decode cL_law 2817 = .ok (.laload, 1) := dk_47 (dk_at dksL_law_110 5 rfl rfl)
theorem dL_law_2818 : decode cL_law 2818 = .ok (.iload 7, 2) := dk_21 7 (dk_at dksL_law_110 6 rfl rfl)
theorem dL_law_2820 : decode cL_law 2820 = .ok (.i2l, 1) := dk_133 (dk_at dksL_law_110 8 rfl rfl)
theorem dL_law_2821 : decode cL_law 2821 = .ok (.lcmp, 1) := dk_148 (dk_at dksL_law_110 9 rfl rfl)
theorem dL_law_2822 : decode cL_law 2822 = .ok (.ifCond .eq 5, 3) := dk_153 0 5 (dk_at dksL_law_110 10 rfl rfl)
theorem dL_law_2825 : decode cL_law 2825 = .ok (.iconst 0, 1) := dk_3 (dk_at dksL_law_110 13 rfl rfl)
theorem dL_law_2826 : decode cL_law 2826 = .ok (.ireturn, 1) := dk_172 (dk_at dksL_law_110 14 rfl rfl)
theorem dL_law_2827 : decode cL_law 2827 = .ok (.goto 1359, 3) := dk_167 5 79 (dk_at dksL_law_110 15 rfl rfl)
theorem dL_law_2830 : decode cL_law 2830 = .ok (.aload_n 1, 1) := dk_43 (dk_at dksL_law_110 18 rfl rfl)
theorem dL_law_2831 : decode cL_law 2831 = .ok (.aload_n 0, 1) := dk_42 (dk_at dksL_law_110 19 rfl rfl)
theorem dL_law_2832 : decode cL_law 2832 = .ok (.iload 5, 2) := dk_21 5 (dk_at dksL_law_110 20 rfl rfl)
theorem dL_law_2834 : decode cL_law 2834 = .ok (.iconst 1, 1) := dk_4 (dk_at dksL_law_110 22 rfl rfl)
theorem dL_law_2835 : decode cL_law 2835 = .ok (.iadd, 1) := dk_96 (dk_at dksL_law_110 23 rfl rfl)
theorem dL_law_2836 : decode cL_law 2836 = .ok (.iaload, 1) := dk_46 (dk_at dksL_law_111 0 rfl rfl)
theorem dL_law_2837 : decode cL_law 2837 = .ok (.aload_n 0, 1) := dk_42 (dk_at dksL_law_111 1 rfl rfl)
theorem dL_law_2838 : decode cL_law 2838 = .ok (.iload 5, 2) := dk_21 5 (dk_at dksL_law_111 2 rfl rfl)
theorem dL_law_2840 : decode cL_law 2840 = .ok (.iconst 2, 1) := dk_5 (dk_at dksL_law_111 4 rfl rfl)
theorem dL_law_2841 : decode cL_law 2841 = .ok (.iadd, 1) := dk_96 (dk_at dksL_law_111 5 rfl rfl)
theorem dL_law_2842 : decode cL_law 2842 = .ok (.iaload, 1) := dk_46 (dk_at dksL_law_111 6 rfl rfl)
theorem dL_law_2843 : decode cL_law 2843 = .ok (.aload_n 0, 1) := dk_42 (dk_at dksL_law_111 7 rfl rfl)
theorem dL_law_2844 : decode cL_law 2844 = .ok (.iload 5, 2) := dk_21 5 (dk_at dksL_law_111 8 rfl rfl)
theorem dL_law_2846 : decode cL_law 2846 = .ok (.iconst 3, 1) := dk_6 (dk_at dksL_law_111 10 rfl rfl)
theorem dL_law_2847 : decode cL_law 2847 = .ok (.iadd, 1) := dk_96 (dk_at dksL_law_111 11 rfl rfl)
theorem dL_law_2848 : decode cL_law 2848 = .ok (.iaload, 1) := dk_46 (dk_at dksL_law_111 12 rfl rfl)
theorem dL_law_2849 : decode cL_law 2849 = .ok (.aload_n 3, 1) := dk_45 (dk_at dksL_law_111 13 rfl rfl)
theorem dL_law_2850 : decode cL_law 2850 = .ok (.invokestatic 341, 3) := dk_184 1 85 (dk_at dksL_law_111 14 rfl rfl)
theorem dL_law_2853 : decode cL_law 2853 = .ok (.istore 6, 2) := dk_54 6 (dk_at dksL_law_111 17 rfl rfl)
theorem dL_law_2855 : decode cL_law 2855 = .ok (.aload_n 2, 1) := dk_44 (dk_at dksL_law_111 19 rfl rfl)
theorem dL_law_2856 : decode cL_law 2856 = .ok (.aload_n 0, 1) := dk_42 (dk_at dksL_law_111 20 rfl rfl)
theorem dL_law_2857 : decode cL_law 2857 = .ok (.iload 5, 2) := dk_21 5 (dk_at dksL_law_111 21 rfl rfl)
theorem dL_law_2859 : decode cL_law 2859 = .ok (.iconst 1, 1) := dk_4 (dk_at dksL_law_111 23 rfl rfl)
theorem dL_law_2860 : decode cL_law 2860 = .ok (.iadd, 1) := dk_96 (dk_at dksL_law_112 0 rfl rfl)
theorem dL_law_2861 : decode cL_law 2861 = .ok (.iaload, 1) := dk_46 (dk_at dksL_law_112 1 rfl rfl)
theorem dL_law_2862 : decode cL_law 2862 = .ok (.aload_n 0, 1) := dk_42 (dk_at dksL_law_112 2 rfl rfl)
theorem dL_law_2863 : decode cL_law 2863 = .ok (.iload 5, 2) := dk_21 5 (dk_at dksL_law_112 3 rfl rfl)
theorem dL_law_2865 : decode cL_law 2865 = .ok (.iconst 2, 1) := dk_5 (dk_at dksL_law_112 5 rfl rfl)
theorem dL_law_2866 : decode cL_law 2866 = .ok (.iadd, 1) := dk_96 (dk_at dksL_law_112 6 rfl rfl)
theorem dL_law_2867 : decode cL_law 2867 = .ok (.iaload, 1) := dk_46 (dk_at dksL_law_112 7 rfl rfl)
theorem dL_law_2868 : decode cL_law 2868 = .ok (.aload_n 0, 1) := dk_42 (dk_at dksL_law_112 8 rfl rfl)
theorem dL_law_2869 : decode cL_law 2869 = .ok (.iload 5, 2) := dk_21 5 (dk_at dksL_law_112 9 rfl rfl)
theorem dL_law_2871 : decode cL_law 2871 = .ok (.iconst 3, 1) := dk_6 (dk_at dksL_law_112 11 rfl rfl)
theorem dL_law_2872 : decode cL_law 2872 = .ok (.iadd, 1) := dk_96 (dk_at dksL_law_112 12 rfl rfl)
theorem dL_law_2873 : decode cL_law 2873 = .ok (.iaload, 1) := dk_46 (dk_at dksL_law_112 13 rfl rfl)
theorem dL_law_2874 : decode cL_law 2874 = .ok (.invokevirtual 343, 3) := dk_182 1 87 (dk_at dksL_law_112 14 rfl rfl)
theorem dL_law_2877 : decode cL_law 2877 = .ok (.istore 7, 2) := dk_54 7 (dk_at dksL_law_112 17 rfl rfl)
theorem dL_law_2879 : decode cL_law 2879 = .ok (.aload_n 2, 1) := dk_44 (dk_at dksL_law_112 19 rfl rfl)
theorem dL_law_2880 : decode cL_law 2880 = .ok (.invokevirtual 216, 3) := dk_182 0 216 (dk_at dksL_law_112 20 rfl rfl)
theorem dL_law_2883 : decode cL_law 2883 = .ok (.iload 6, 2) := dk_21 6 (dk_at dksL_law_113 0 rfl rfl)
theorem dL_law_2885 : decode cL_law 2885 = .ok (.if_icmp .eq 5, 3) := dk_159 0 5 (dk_at dksL_law_113 2 rfl rfl)
theorem dL_law_2888 : decode cL_law 2888 = .ok (.iconst 0, 1) := dk_3 (dk_at dksL_law_113 5 rfl rfl)
theorem dL_law_2889 : decode cL_law 2889 = .ok (.ireturn, 1) := dk_172 (dk_at dksL_law_113 6 rfl rfl)
theorem dL_law_2890 : decode cL_law 2890 = .ok (.iload 6, 2) := dk_21 6 (dk_at dksL_law_113 7 rfl rfl)
theorem dL_law_2892 : decode cL_law 2892 = .ok (.ifCond .ne 15, 3) := dk_154 0 15 (dk_at dksL_law_113 9 rfl rfl)
theorem dL_law_2895 : decode cL_law 2895 = .ok (.aload_n 3, 1) := dk_45 (dk_at dksL_law_113 12 rfl rfl)
theorem dL_law_2896 : decode cL_law 2896 = .ok (.iconst 0, 1) := dk_3 (dk_at dksL_law_113 13 rfl rfl)
theorem dL_law_2897 : decode cL_law 2897 = .ok (.laload, 1) := dk_47 (dk_at dksL_law_113 14 rfl rfl)
theorem dL_law_2898 : decode cL_law 2898 = .ok (.iload 7, 2) := dk_21 7 (dk_at dksL_law_113 15 rfl rfl)
theorem dL_law_2900 : decode cL_law 2900 = .ok (.i2l, 1) := dk_133 (dk_at dksL_law_113 17 rfl rfl)
theorem dL_law_2901 : decode cL_law 2901 = .ok (.lcmp, 1) := dk_148 (dk_at dksL_law_113 18 rfl rfl)
theorem dL_law_2902 : decode cL_law 2902 = .ok (.ifCond .eq 5, 3) := dk_153 0 5 (dk_at dksL_law_113 19 rfl rfl)
theorem dL_law_2905 : decode cL_law 2905 = .ok (.iconst 0, 1) := dk_3 (dk_at dksL_law_113 22 rfl rfl)
theorem dL_law_2906 : decode cL_law 2906 = .ok (.ireturn, 1) := dk_172 (dk_at dksL_law_113 23 rfl rfl)
theorem dL_law_2907 : decode cL_law 2907 = .ok (.goto 1279, 3) := dk_167 4 255 (dk_at dksL_law_114 0 rfl rfl)
theorem dL_law_2910 : decode cL_law 2910 = .ok (.aload_n 1, 1) := dk_43 (dk_at dksL_law_114 3 rfl rfl)
theorem dL_law_2911 : decode cL_law 2911 = .ok (.aload_n 0, 1) := dk_42 (dk_at dksL_law_114 4 rfl rfl)
theorem dL_law_2912 : decode cL_law 2912 = .ok (.iload 5, 2) := dk_21 5 (dk_at dksL_law_114 5 rfl rfl)
theorem dL_law_2914 : decode cL_law 2914 = .ok (.iconst 1, 1) := dk_4 (dk_at dksL_law_114 7 rfl rfl)
theorem dL_law_2915 : decode cL_law 2915 = .ok (.iadd, 1) := dk_96 (dk_at dksL_law_114 8 rfl rfl)
theorem dL_law_2916 : decode cL_law 2916 = .ok (.iaload, 1) := dk_46 (dk_at dksL_law_114 9 rfl rfl)
theorem dL_law_2917 : decode cL_law 2917 = .ok (.aload_n 0, 1) := dk_42 (dk_at dksL_law_114 10 rfl rfl)
theorem dL_law_2918 : decode cL_law 2918 = .ok (.iload 5, 2) := dk_21 5 (dk_at dksL_law_114 11 rfl rfl)
theorem dL_law_2920 : decode cL_law 2920 = .ok (.iconst 2, 1) := dk_5 (dk_at dksL_law_114 13 rfl rfl)
theorem dL_law_2921 : decode cL_law 2921 = .ok (.iadd, 1) := dk_96 (dk_at dksL_law_114 14 rfl rfl)
theorem dL_law_2922 : decode cL_law 2922 = .ok (.iaload, 1) := dk_46 (dk_at dksL_law_114 15 rfl rfl)
theorem dL_law_2923 : decode cL_law 2923 = .ok (.aload_n 3, 1) := dk_45 (dk_at dksL_law_114 16 rfl rfl)
theorem dL_law_2924 : decode cL_law 2924 = .ok (.invokestatic 344, 3) := dk_184 1 88 (dk_at dksL_law_114 17 rfl rfl)
theorem dL_law_2927 : decode cL_law 2927 = .ok (.istore 6, 2) := dk_54 6 (dk_at dksL_law_114 20 rfl rfl)
theorem dL_law_2929 : decode cL_law 2929 = .ok (.aload_n 2, 1) := dk_44 (dk_at dksL_law_114 22 rfl rfl)
theorem dL_law_2930 : decode cL_law 2930 = .ok (.aload_n 0, 1) := dk_42 (dk_at dksL_law_114 23 rfl rfl)
theorem dL_law_2931 : decode cL_law 2931 = .ok (.iload 5, 2) := dk_21 5 (dk_at dksL_law_115 0 rfl rfl)
theorem dL_law_2933 : decode cL_law 2933 = .ok (.iconst 1, 1) := dk_4 (dk_at dksL_law_115 2 rfl rfl)
theorem dL_law_2934 : decode cL_law 2934 = .ok (.iadd, 1) := dk_96 (dk_at dksL_law_115 3 rfl rfl)
theorem dL_law_2935 : decode cL_law 2935 = .ok (.iaload, 1) := dk_46 (dk_at dksL_law_115 4 rfl rfl)
theorem dL_law_2936 : decode cL_law 2936 = .ok (.aload_n 0, 1) := dk_42 (dk_at dksL_law_115 5 rfl rfl)
theorem dL_law_2937 : decode cL_law 2937 = .ok (.iload 5, 2) := dk_21 5 (dk_at dksL_law_115 6 rfl rfl)
theorem dL_law_2939 : decode cL_law 2939 = .ok (.iconst 2, 1) := dk_5 (dk_at dksL_law_115 8 rfl rfl)
theorem dL_law_2940 : decode cL_law 2940 = .ok (.iadd, 1) := dk_96 (dk_at dksL_law_115 9 rfl rfl)
theorem dL_law_2941 : decode cL_law 2941 = .ok (.iaload, 1) := dk_46 (dk_at dksL_law_115 10 rfl rfl)
theorem dL_law_2942 : decode cL_law 2942 = .ok (.invokevirtual 346, 3) := dk_182 1 90 (dk_at dksL_law_115 11 rfl rfl)
theorem dL_law_2945 : decode cL_law 2945 = .ok (.istore 7, 2) := dk_54 7 (dk_at dksL_law_115 14 rfl rfl)
theorem dL_law_2947 : decode cL_law 2947 = .ok (.aload_n 2, 1) := dk_44 (dk_at dksL_law_115 16 rfl rfl)
theorem dL_law_2948 : decode cL_law 2948 = .ok (.invokevirtual 216, 3) := dk_182 0 216 (dk_at dksL_law_115 17 rfl rfl)
theorem dL_law_2951 : decode cL_law 2951 = .ok (.iload 6, 2) := dk_21 6 (dk_at dksL_law_115 20 rfl rfl)
theorem dL_law_2953 : decode cL_law 2953 = .ok (.if_icmp .eq 5, 3) := dk_159 0 5 (dk_at dksL_law_116 0 rfl rfl)
theorem dL_law_2956 : decode cL_law 2956 = .ok (.iconst 0, 1) := dk_3 (dk_at dksL_law_116 3 rfl rfl)
theorem dL_law_2957 : decode cL_law 2957 = .ok (.ireturn, 1) := dk_172 (dk_at dksL_law_116 4 rfl rfl)
theorem dL_law_2958 : decode cL_law 2958 = .ok (.iload 6, 2) := dk_21 6 (dk_at dksL_law_116 5 rfl rfl)
theorem dL_law_2960 : decode cL_law 2960 = .ok (.ifCond .ne 15, 3) := dk_154 0 15 (dk_at dksL_law_116 7 rfl rfl)
theorem dL_law_2963 : decode cL_law 2963 = .ok (.aload_n 3, 1) := dk_45 (dk_at dksL_law_116 10 rfl rfl)
theorem dL_law_2964 : decode cL_law 2964 = .ok (.iconst 0, 1) := dk_3 (dk_at dksL_law_116 11 rfl rfl)
theorem dL_law_2965 : decode cL_law 2965 = .ok (.laload, 1) := dk_47 (dk_at dksL_law_116 12 rfl rfl)
theorem dL_law_2966 : decode cL_law 2966 = .ok (.iload 7, 2) := dk_21 7 (dk_at dksL_law_116 13 rfl rfl)
theorem dL_law_2968 : decode cL_law 2968 = .ok (.i2l, 1) := dk_133 (dk_at dksL_law_116 15 rfl rfl)
theorem dL_law_2969 : decode cL_law 2969 = .ok (.lcmp, 1) := dk_148 (dk_at dksL_law_116 16 rfl rfl)
theorem dL_law_2970 : decode cL_law 2970 = .ok (.ifCond .eq 5, 3) := dk_153 0 5 (dk_at dksL_law_116 17 rfl rfl)
theorem dL_law_2973 : decode cL_law 2973 = .ok (.iconst 0, 1) := dk_3 (dk_at dksL_law_116 20 rfl rfl)
theorem dL_law_2974 : decode cL_law 2974 = .ok (.ireturn, 1) := dk_172 (dk_at dksL_law_116 21 rfl rfl)
theorem dL_law_2975 : decode cL_law 2975 = .ok (.goto 1211, 3) := dk_167 4 187 (dk_at dksL_law_117 0 rfl rfl)
theorem dL_law_2978 : decode cL_law 2978 = .ok (.aload_n 1, 1) := dk_43 (dk_at dksL_law_117 3 rfl rfl)
theorem dL_law_2979 : decode cL_law 2979 = .ok (.aload 4, 2) := dk_25 4 (dk_at dksL_law_117 4 rfl rfl)
theorem dL_law_2981 : decode cL_law 2981 = .ok (.invokestatic 347, 3) := dk_184 1 91 (dk_at dksL_law_117 6 rfl rfl)
theorem dL_law_2984 : decode cL_law 2984 = .ok (.istore 6, 2) := dk_54 6 (dk_at dksL_law_117 9 rfl rfl)
theorem dL_law_2986 : decode cL_law 2986 = .ok (.aload_n 2, 1) := dk_44 (dk_at dksL_law_117 11 rfl rfl)
theorem dL_law_2987 : decode cL_law 2987 = .ok (.invokevirtual 350, 3) := dk_182 1 94 (dk_at dksL_law_117 12 rfl rfl)
theorem dL_law_2990 : decode cL_law 2990 = .ok (.fstore 7, 2) := dk_56 7 (dk_at dksL_law_117 15 rfl rfl)
theorem dL_law_2992 : decode cL_law 2992 = .ok (.aload_n 2, 1) := dk_44 (dk_at dksL_law_117 17 rfl rfl)
theorem dL_law_2993 : decode cL_law 2993 = .ok (.invokevirtual 216, 3) := dk_182 0 216 (dk_at dksL_law_117 18 rfl rfl)
theorem dL_law_2996 : decode cL_law 2996 = .ok (.iload 6, 2) := dk_21 6 (dk_at dksL_law_117 21 rfl rfl)
theorem dL_law_2998 : decode cL_law 2998 = .ok (.if_icmp .eq 5, 3) := dk_159 0 5 (dk_at dksL_law_118 0 rfl rfl)
theorem dL_law_3001 : decode cL_law 3001 = .ok (.iconst 0, 1) := dk_3 (dk_at dksL_law_118 3 rfl rfl)
theorem dL_law_3002 : decode cL_law 3002 = .ok (.ireturn, 1) := dk_172 (dk_at dksL_law_118 4 rfl rfl)
theorem dL_law_3003 : decode cL_law 3003 = .ok (.iload 6, 2) := dk_21 6 (dk_at dksL_law_118 5 rfl rfl)
theorem dL_law_3005 : decode cL_law 3005 = .ok (.ifCond .ne 36, 3) := dk_154 0 36 (dk_at dksL_law_118 7 rfl rfl)
theorem dL_law_3008 : decode cL_law 3008 = .ok (.aload 4, 2) := dk_25 4 (dk_at dksL_law_118 10 rfl rfl)
theorem dL_law_3010 : decode cL_law 3010 = .ok (.iconst 0, 1) := dk_3 (dk_at dksL_law_118 12 rfl rfl)
theorem dL_law_3011 : decode cL_law 3011 = .ok (.daload, 1) := dk_49 (dk_at dksL_law_118 13 rfl rfl)
theorem dL_law_3012 : decode cL_law 3012 = .ok (.fload 7, 2) := dk_23 7 (dk_at dksL_law_118 14 rfl rfl)
theorem dL_law_3014 : decode cL_law 3014 = .ok (.f2d, 1) := dk_141 (dk_at dksL_law_118 16 rfl rfl)
theorem dL_law_3015 : decode cL_law 3015 = .ok (.dcmp .l, 1) := dk_151 (dk_at dksL_law_118 17 rfl rfl)
theorem dL_law_3016 : decode cL_law 3016 = .ok (.ifCond .eq 25, 3) := dk_153 0 25 (dk_at dksL_law_118 18 rfl rfl)
theorem dL_law_3019 : decode cL_law 3019 = .ok (.aload 4, 2) := dk_25 4 (dk_at dksL_law_118 21 rfl rfl)
theorem dL_law_3021 : decode cL_law 3021 = .ok (.iconst 0, 1) := dk_3 (dk_at dksL_law_118 23 rfl rfl)
theorem dL_law_3022 : decode cL_law 3022 = .ok (.daload, 1) := dk_49 (dk_at dksL_law_119 0 rfl rfl)
theorem dL_law_3023 : decode cL_law 3023 = .ok (.aload 4, 2) := dk_25 4 (dk_at dksL_law_119 1 rfl rfl)
theorem dL_law_3025 : decode cL_law 3025 = .ok (.iconst 0, 1) := dk_3 (dk_at dksL_law_119 3 rfl rfl)
theorem dL_law_3026 : decode cL_law 3026 = .ok (.daload, 1) := dk_49 (dk_at dksL_law_119 4 rfl rfl)
theorem dL_law_3027 : decode cL_law 3027 = .ok (.dcmp .l, 1) := dk_151 (dk_at dksL_law_119 5 rfl rfl)
theorem dL_law_3028 : decode cL_law 3028 = .ok (.ifCond .eq 11, 3) := dk_153 0 11 (dk_at dksL_law_119 6 rfl rfl)
theorem dL_law_3031 : decode cL_law 3031 = .ok (.fload 7, 2) := dk_23 7 (dk_at dksL_law_119 9 rfl rfl)
theorem dL_law_3033 : decode cL_law 3033 = .ok (.fload 7, 2) := dk_23 7 (dk_at dksL_law_119 11 rfl rfl)
theorem dL_law_3035 : decode cL_law 3035 = .ok (.fcmp .l, 1) := dk_149 (dk_at dksL_law_119 13 rfl rfl)
theorem dL_law_3036 : decode cL_law 3036 = .ok (.ifCond .ne 5, 3) := dk_154 0 5 (dk_at dksL_law_119 14 rfl rfl)
theorem dL_law_3039 : decode cL_law 3039 = .ok (.iconst 0, 1) := dk_3 (dk_at dksL_law_119 17 rfl rfl)
theorem dL_law_3040 : decode cL_law 3040 = .ok (.ireturn, 1) := dk_172 (dk_at dksL_law_119 18 rfl rfl)
theorem dL_law_3041 : decode cL_law 3041 = .ok (.goto 1145, 3) := dk_167 4 121 (dk_at dksL_law_119 19 rfl rfl)
theorem dL_law_3044 : decode cL_law 3044 = .ok (.aload_n 1, 1) := dk_43 (dk_at dksL_law_119 22 rfl rfl)
theorem dL_law_3045 : decode cL_law 3045 = .ok (.aload 4, 2) := dk_25 4 (dk_at dksL_law_120 0 rfl rfl)
theorem dL_law_3047 : decode cL_law 3047 = .ok (.invokestatic 351, 3) := dk_184 1 95 (dk_at dksL_law_120 2 rfl rfl)
theorem dL_law_3050 : decode cL_law 3050 = .ok (.istore 6, 2) := dk_54 6 (dk_at dksL_law_120 5 rfl rfl)
theorem dL_law_3052 : decode cL_law 3052 = .ok (.aload_n 2, 1) := dk_44 (dk_at dksL_law_120 7 rfl rfl)
theorem dL_law_3053 : decode cL_law 3053 = .ok (.invokevirtual 353, 3) := dk_182 1 97 (dk_at dksL_law_120 8 rfl rfl)
theorem dL_law_3056 : decode cL_law 3056 = .ok (.dstore 7, 2) := dk_57 7 (dk_at dksL_law_120 11 rfl rfl)
theorem dL_law_3058 : decode cL_law 3058 = .ok (.aload_n 2, 1) := dk_44 (dk_at dksL_law_120 13 rfl rfl)
theorem dL_law_3059 : decode cL_law 3059 = .ok (.invokevirtual 216, 3) := dk_182 0 216 (dk_at dksL_law_120 14 rfl rfl)
theorem dL_law_3062 : decode cL_law 3062 = .ok (.iload 6, 2) := dk_21 6 (dk_at dksL_law_120 17 rfl rfl)
theorem dL_law_3064 : decode cL_law 3064 = .ok (.if_icmp .eq 5, 3) := dk_159 0 5 (dk_at dksL_law_120 19 rfl rfl)
theorem dL_law_3067 : decode cL_law 3067 = .ok (.iconst 0, 1) := dk_3 (dk_at dksL_law_120 22 rfl rfl)
theorem dL_law_3068 : decode cL_law 3068 = .ok (.ireturn, 1) := dk_172 (dk_at dksL_law_120 23 rfl rfl)
theorem dL_law_3069 : decode cL_law 3069 = .ok (.iload 6, 2) := dk_21 6 (dk_at dksL_law_121 0 rfl rfl)
theorem dL_law_3071 : decode cL_law 3071 = .ok (.ifCond .ne 35, 3) := dk_154 0 35 (dk_at dksL_law_121 2 rfl rfl)
theorem dL_law_3074 : decode cL_law 3074 = .ok (.aload 4, 2) := dk_25 4 (dk_at dksL_law_121 5 rfl rfl)
theorem dL_law_3076 : decode cL_law 3076 = .ok (.iconst 0, 1) := dk_3 (dk_at dksL_law_121 7 rfl rfl)
theorem dL_law_3077 : decode cL_law 3077 = .ok (.daload, 1) := dk_49 (dk_at dksL_law_121 8 rfl rfl)
theorem dL_law_3078 : decode cL_law 3078 = .ok (.dload 7, 2) := dk_24 7 (dk_at dksL_law_121 9 rfl rfl)
theorem dL_law_3080 : decode cL_law 3080 = .ok (.dcmp .l, 1) := dk_151 (dk_at dksL_law_121 11 rfl rfl)
theorem dL_law_3081 : decode cL_law 3081 = .ok (.ifCond .eq 25, 3) := dk_153 0 25 (dk_at dksL_law_121 12 rfl rfl)
theorem dL_law_3084 : decode cL_law 3084 = .ok (.aload 4, 2) := dk_25 4 (dk_at dksL_law_121 15 rfl rfl)
theorem dL_law_3086 : decode cL_law 3086 = .ok (.iconst 0, 1) := dk_3 (dk_at dksL_law_121 17 rfl rfl)
theorem dL_law_3087 : decode cL_law 3087 = .ok (.daload, 1) := dk_49 (dk_at dksL_law_121 18 rfl rfl)
theorem dL_law_3088 : decode cL_law 3088 = .ok (.aload 4, 2) := dk_25 4 (dk_at dksL_law_121 19 rfl rfl)
theorem dL_law_3090 : decode cL_law 3090 = .ok (.iconst 0, 1) := dk_3 (dk_at dksL_law_121 21 rfl rfl)
theorem dL_law_3091 : decode cL_law 3091 = .ok (.daload, 1) := dk_49 (dk_at dksL_law_121 22 rfl rfl)
theorem dL_law_3092 : decode cL_law 3092 = .ok (.dcmp .l, 1) := dk_151 (dk_at dksL_law_121 23 rfl rfl)
theorem dL_law_3093 : decode cL_law 3093 = .ok (.ifCond .eq 11, 3) := dk_153 0 11 (dk_at dksL_law_122 0 rfl rfl)
theorem dL_law_3096 : decode cL_law 3096 = .ok (.dload 7, 2) := dk_24 7 (dk_at dksL_law_122 3 rfl rfl)
theorem dL_law_3098 : decode cL_law 3098 = .ok (.dload 7, 2) := dk_24 7 (dk_at dksL_law_122 5 rfl rfl)
theorem dL_law_3100 : decode cL_law 3100 = .ok (.dcmp .l, 1) := dk_151 (dk_at dksL_law_122 7 rfl rfl)
theorem dL_law_3101 : decode cL_law 3101 = .ok (.ifCond .ne 5, 3) := dk_154 0 5 (dk_at dksL_law_122 8 rfl rfl)
theorem dL_law_3104 : decode cL_law 3104 = .ok (.iconst 0, 1) := dk_3 (dk_at dksL_law_122 11 rfl rfl)
theorem dL_law_3105 : decode cL_law 3105 = .ok (.ireturn, 1) := dk_172 (dk_at dksL_law_122 12 rfl rfl)
theorem dL_law_3106 : decode cL_law 3106 = .ok (.goto 1080, 3) := dk_167 4 56 (dk_at dksL_law_122 13 rfl rfl)
theorem dL_law_3109 : decode cL_law 3109 = .ok (.aload_n 1, 1) := dk_43 (dk_at dksL_law_122 16 rfl rfl)
theorem dL_law_3110 : decode cL_law 3110 = .ok (.aload_n 0, 1) := dk_42 (dk_at dksL_law_122 17 rfl rfl)
theorem dL_law_3111 : decode cL_law 3111 = .ok (.iload 5, 2) := dk_21 5 (dk_at dksL_law_122 18 rfl rfl)
theorem dL_law_3113 : decode cL_law 3113 = .ok (.iconst 1, 1) := dk_4 (dk_at dksL_law_122 20 rfl rfl)
theorem dL_law_3114 : decode cL_law 3114 = .ok (.iadd, 1) := dk_96 (dk_at dksL_law_122 21 rfl rfl)
theorem dL_law_3115 : decode cL_law 3115 = .ok (.iaload, 1) := dk_46 (dk_at dksL_law_122 22 rfl rfl)
theorem dL_law_3116 : decode cL_law 3116 = .ok (.aload_n 3, 1) := dk_45 (dk_at dksL_law_122 23 rfl rfl)
theorem dL_law_3117 : decode cL_law 3117 = .ok (.invokestatic 354, 3) := dk_184 1 98 (dk_at dksL_law_123 0 rfl rfl)
theorem dL_law_3120 : decode cL_law 3120 = .ok (.istore 6, 2) := dk_54 6 (dk_at dksL_law_123 3 rfl rfl)
theorem dL_law_3122 : decode cL_law 3122 = .ok (.aload_n 2, 1) := dk_44 (dk_at dksL_law_123 5 rfl rfl)
theorem dL_law_3123 : decode cL_law 3123 = .ok (.aload_n 0, 1) := dk_42 (dk_at dksL_law_123 6 rfl rfl)
theorem dL_law_3124 : decode cL_law 3124 = .ok (.iload 5, 2) := dk_21 5 (dk_at dksL_law_123 7 rfl rfl)
theorem dL_law_3126 : decode cL_law 3126 = .ok (.iconst 1, 1) := dk_4 (dk_at dksL_law_123 9 rfl rfl)
theorem dL_law_3127 : decode cL_law 3127 = .ok (.iadd, 1) := dk_96 (dk_at dksL_law_123 10 rfl rfl)
theorem dL_law_3128 : decode cL_law 3128 = .ok (.iaload, 1) := dk_46 (dk_at dksL_law_123 11 rfl rfl)
theorem dL_law_3129 : decode cL_law 3129 = .ok (.invokevirtual 356, 3) := dk_182 1 100 (dk_at dksL_law_123 12 rfl rfl)
theorem dL_law_3132 : decode cL_law 3132 = .ok (.istore 7, 2) := dk_54 7 (dk_at dksL_law_123 15 rfl rfl)
theorem dL_law_3134 : decode cL_law 3134 = .ok (.aload_n 2, 1) := dk_44 (dk_at dksL_law_123 17 rfl rfl)
theorem dL_law_3135 : decode cL_law 3135 = .ok (.invokevirtual 216, 3) := dk_182 0 216 (dk_at dksL_law_123 18 rfl rfl)
theorem dL_law_3138 : decode cL_law 3138 = .ok (.iload 6, 2) := dk_21 6 (dk_at dksL_law_123 21 rfl rfl)
theorem dL_law_3140 : decode cL_law 3140 = .ok (.if_icmp .eq 5, 3) := dk_159 0 5 (dk_at dksL_law_124 0 rfl rfl)
theorem dL_law_3143 : decode cL_law 3143 = .ok (.iconst 0, 1) := dk_3 (dk_at dksL_law_124 3 rfl rfl)
theorem dL_law_3144 : decode cL_law 3144 = .ok (.ireturn, 1) := dk_172 (dk_at dksL_law_124 4 rfl rfl)
theorem dL_law_3145 : decode cL_law 3145 = .ok (.iload 6, 2) := dk_21 6 (dk_at dksL_law_124 5 rfl rfl)
theorem dL_law_3147 : decode cL_law 3147 = .ok (.ifCond .ne 15, 3) := dk_154 0 15 (dk_at dksL_law_124 7 rfl rfl)
theorem dL_law_3150 : decode cL_law 3150 = .ok (.aload_n 3, 1) := dk_45 (dk_at dksL_law_124 10 rfl rfl)
theorem dL_law_3151 : decode cL_law 3151 = .ok (.iconst 0, 1) := dk_3 (dk_at dksL_law_124 11 rfl rfl)
theorem dL_law_3152 : decode cL_law 3152 = .ok (.laload, 1) := dk_47 (dk_at dksL_law_124 12 rfl rfl)
theorem dL_law_3153 : decode cL_law 3153 = .ok (.iload 7, 2) := dk_21 7 (dk_at dksL_law_124 13 rfl rfl)
theorem dL_law_3155 : decode cL_law 3155 = .ok (.i2l, 1) := dk_133 (dk_at dksL_law_124 15 rfl rfl)
theorem dL_law_3156 : decode cL_law 3156 = .ok (.lcmp, 1) := dk_148 (dk_at dksL_law_124 16 rfl rfl)
theorem dL_law_3157 : decode cL_law 3157 = .ok (.ifCond .eq 5, 3) := dk_153 0 5 (dk_at dksL_law_124 17 rfl rfl)
theorem dL_law_3160 : decode cL_law 3160 = .ok (.iconst 0, 1) := dk_3 (dk_at dksL_law_124 20 rfl rfl)
theorem dL_law_3161 : decode cL_law 3161 = .ok (.ireturn, 1) := dk_172 (dk_at dksL_law_124 21 rfl rfl)
theorem dL_law_3162 : decode cL_law 3162 = .ok (.goto 1024, 3) := dk_167 4 0 (dk_at dksL_law_125 0 rfl rfl)
theorem dL_law_3165 : decode cL_law 3165 = .ok (.aload_n 1, 1) := dk_43 (dk_at dksL_law_125 3 rfl rfl)
theorem dL_law_3166 : decode cL_law 3166 = .ok (.aload_n 0, 1) := dk_42 (dk_at dksL_law_125 4 rfl rfl)
theorem dL_law_3167 : decode cL_law 3167 = .ok (.iload 5, 2) := dk_21 5 (dk_at dksL_law_125 5 rfl rfl)
theorem dL_law_3169 : decode cL_law 3169 = .ok (.iconst 1, 1) := dk_4 (dk_at dksL_law_125 7 rfl rfl)
theorem dL_law_3170 : decode cL_law 3170 = .ok (.iadd, 1) := dk_96 (dk_at dksL_law_125 8 rfl rfl)
theorem dL_law_3171 : decode cL_law 3171 = .ok (.iaload, 1) := dk_46 (dk_at dksL_law_125 9 rfl rfl)
theorem dL_law_3172 : decode cL_law 3172 = .ok (.aload_n 3, 1) := dk_45 (dk_at dksL_law_125 10 rfl rfl)
theorem dL_law_3173 : decode cL_law 3173 = .ok (.invokestatic 357, 3) := dk_184 1 101 (dk_at dksL_law_125 11 rfl rfl)
theorem dL_law_3176 : decode cL_law 3176 = .ok (.istore 6, 2) := dk_54 6 (dk_at dksL_law_125 14 rfl rfl)
theorem dL_law_3178 : decode cL_law 3178 = .ok (.aload_n 2, 1) := dk_44 (dk_at dksL_law_125 16 rfl rfl)
theorem dL_law_3179 : decode cL_law 3179 = .ok (.aload_n 0, 1) := dk_42 (dk_at dksL_law_125 17 rfl rfl)
theorem dL_law_3180 : decode cL_law 3180 = .ok (.iload 5, 2) := dk_21 5 (dk_at dksL_law_125 18 rfl rfl)
theorem dL_law_3182 : decode cL_law 3182 = .ok (.iconst 1, 1) := dk_4 (dk_at dksL_law_125 20 rfl rfl)
theorem dL_law_3183 : decode cL_law 3183 = .ok (.iadd, 1) := dk_96 (dk_at dksL_law_125 21 rfl rfl)
theorem dL_law_3184 : decode cL_law 3184 = .ok (.iaload, 1) := dk_46 (dk_at dksL_law_125 22 rfl rfl)
theorem dL_law_3185 : decode cL_law 3185 = .ok (.invokevirtual 359, 3) := dk_182 1 103 (dk_at dksL_law_126 0 rfl rfl)
theorem dL_law_3188 : decode cL_law 3188 = .ok (.istore 7, 2) := dk_54 7 (dk_at dksL_law_126 3 rfl rfl)
theorem dL_law_3190 : decode cL_law 3190 = .ok (.aload_n 2, 1) := dk_44 (dk_at dksL_law_126 5 rfl rfl)
theorem dL_law_3191 : decode cL_law 3191 = .ok (.invokevirtual 216, 3) := dk_182 0 216 (dk_at dksL_law_126 6 rfl rfl)
theorem dL_law_3194 : decode cL_law 3194 = .ok (.iload 6, 2) := dk_21 6 (dk_at dksL_law_126 9 rfl rfl)
theorem dL_law_3196 : decode cL_law 3196 = .ok (.if_icmp .eq 5, 3) := dk_159 0 5 (dk_at dksL_law_126 11 rfl rfl)
theorem dL_law_3199 : decode cL_law 3199 = .ok (.iconst 0, 1) := dk_3 (dk_at dksL_law_126 14 rfl rfl)
theorem dL_law_3200 : decode cL_law 3200 = .ok (.ireturn, 1) := dk_172 (dk_at dksL_law_126 15 rfl rfl)
theorem dL_law_3201 : decode cL_law 3201 = .ok (.iload 6, 2) := dk_21 6 (dk_at dksL_law_126 16 rfl rfl)
theorem dL_law_3203 : decode cL_law 3203 = .ok (.ifCond .ne 15, 3) := dk_154 0 15 (dk_at dksL_law_126 18 rfl rfl)
theorem dL_law_3206 : decode cL_law 3206 = .ok (.aload_n 3, 1) := dk_45 (dk_at dksL_law_126 21 rfl rfl)
theorem dL_law_3207 : decode cL_law 3207 = .ok (.iconst 0, 1) := dk_3 (dk_at dksL_law_126 22 rfl rfl)
theorem dL_law_3208 : decode cL_law 3208 = .ok (.laload, 1) := dk_47 (dk_at dksL_law_126 23 rfl rfl)
theorem dL_law_3209 : decode cL_law 3209 = .ok (.iload 7, 2) := dk_21 7 (dk_at dksL_law_127 0 rfl rfl)
theorem dL_law_3211 : decode cL_law 3211 = .ok (.i2l, 1) := dk_133 (dk_at dksL_law_127 2 rfl rfl)
theorem dL_law_3212 : decode cL_law 3212 = .ok (.lcmp, 1) := dk_148 (dk_at dksL_law_127 3 rfl rfl)
theorem dL_law_3213 : decode cL_law 3213 = .ok (.ifCond .eq 5, 3) := dk_153 0 5 (dk_at dksL_law_127 4 rfl rfl)
theorem dL_law_3216 : decode cL_law 3216 = .ok (.iconst 0, 1) := dk_3 (dk_at dksL_law_127 7 rfl rfl)
theorem dL_law_3217 : decode cL_law 3217 = .ok (.ireturn, 1) := dk_172 (dk_at dksL_law_127 8 rfl rfl)
theorem dL_law_3218 : decode cL_law 3218 = .ok (.goto 968, 3) := dk_167 3 200 (dk_at dksL_law_127 9 rfl rfl)
theorem dL_law_3221 : decode cL_law 3221 = .ok (.aload_n 1, 1) := dk_43 (dk_at dksL_law_127 12 rfl rfl)
theorem dL_law_3222 : decode cL_law 3222 = .ok (.aload_n 0, 1) := dk_42 (dk_at dksL_law_127 13 rfl rfl)
theorem dL_law_3223 : decode cL_law 3223 = .ok (.iload 5, 2) := dk_21 5 (dk_at dksL_law_127 14 rfl rfl)
theorem dL_law_3225 : decode cL_law 3225 = .ok (.iconst 1, 1) := dk_4 (dk_at dksL_law_127 16 rfl rfl)
theorem dL_law_3226 : decode cL_law 3226 = .ok (.iadd, 1) := dk_96 (dk_at dksL_law_127 17 rfl rfl)
theorem dL_law_3227 : decode cL_law 3227 = .ok (.iaload, 1) := dk_46 (dk_at dksL_law_127 18 rfl rfl)
theorem dL_law_3228 : decode cL_law 3228 = .ok (.aload_n 3, 1) := dk_45 (dk_at dksL_law_127 19 rfl rfl)
theorem dL_law_3229 : decode cL_law 3229 = .ok (.invokestatic 360, 3) := dk_184 1 104 (dk_at dksL_law_127 20 rfl rfl)
theorem dL_law_3232 : decode cL_law 3232 = .ok (.istore 6, 2) := dk_54 6 (dk_at dksL_law_128 0 rfl rfl)
theorem dL_law_3234 : decode cL_law 3234 = .ok (.aload_n 2, 1) := dk_44 (dk_at dksL_law_128 2 rfl rfl)
theorem dL_law_3235 : decode cL_law 3235 = .ok (.aload_n 0, 1) := dk_42 (dk_at dksL_law_128 3 rfl rfl)
theorem dL_law_3236 : decode cL_law 3236 = .ok (.iload 5, 2) := dk_21 5 (dk_at dksL_law_128 4 rfl rfl)
theorem dL_law_3238 : decode cL_law 3238 = .ok (.iconst 1, 1) := dk_4 (dk_at dksL_law_128 6 rfl rfl)
theorem dL_law_3239 : decode cL_law 3239 = .ok (.iadd, 1) := dk_96 (dk_at dksL_law_128 7 rfl rfl)
theorem dL_law_3240 : decode cL_law 3240 = .ok (.iaload, 1) := dk_46 (dk_at dksL_law_128 8 rfl rfl)
theorem dL_law_3241 : decode cL_law 3241 = .ok (.invokevirtual 362, 3) := dk_182 1 106 (dk_at dksL_law_128 9 rfl rfl)
theorem dL_law_3244 : decode cL_law 3244 = .ok (.istore 7, 2) := dk_54 7 (dk_at dksL_law_128 12 rfl rfl)
theorem dL_law_3246 : decode cL_law 3246 = .ok (.aload_n 2, 1) := dk_44 (dk_at dksL_law_128 14 rfl rfl)
theorem dL_law_3247 : decode cL_law 3247 = .ok (.invokevirtual 216, 3) := dk_182 0 216 (dk_at dksL_law_128 15 rfl rfl)
theorem dL_law_3250 : decode cL_law 3250 = .ok (.iload 6, 2) := dk_21 6 (dk_at dksL_law_128 18 rfl rfl)
theorem dL_law_3252 : decode cL_law 3252 = .ok (.if_icmp .eq 5, 3) := dk_159 0 5 (dk_at dksL_law_128 20 rfl rfl)
theorem dL_law_3255 : decode cL_law 3255 = .ok (.iconst 0, 1) := dk_3 (dk_at dksL_law_128 23 rfl rfl)
theorem dL_law_3256 : decode cL_law 3256 = .ok (.ireturn, 1) := dk_172 (dk_at dksL_law_129 0 rfl rfl)
theorem dL_law_3257 : decode cL_law 3257 = .ok (.iload 6, 2) := dk_21 6 (dk_at dksL_law_129 1 rfl rfl)
theorem dL_law_3259 : decode cL_law 3259 = .ok (.ifCond .ne 15, 3) := dk_154 0 15 (dk_at dksL_law_129 3 rfl rfl)
theorem dL_law_3262 : decode cL_law 3262 = .ok (.aload_n 3, 1) := dk_45 (dk_at dksL_law_129 6 rfl rfl)
theorem dL_law_3263 : decode cL_law 3263 = .ok (.iconst 0, 1) := dk_3 (dk_at dksL_law_129 7 rfl rfl)
theorem dL_law_3264 : decode cL_law 3264 = .ok (.laload, 1) := dk_47 (dk_at dksL_law_129 8 rfl rfl)
theorem dL_law_3265 : decode cL_law 3265 = .ok (.iload 7, 2) := dk_21 7 (dk_at dksL_law_129 9 rfl rfl)
theorem dL_law_3267 : decode cL_law 3267 = .ok (.i2l, 1) := dk_133 (dk_at dksL_law_129 11 rfl rfl)
theorem dL_law_3268 : decode cL_law 3268 = .ok (.lcmp, 1) := dk_148 (dk_at dksL_law_129 12 rfl rfl)
theorem dL_law_3269 : decode cL_law 3269 = .ok (.ifCond .eq 5, 3) := dk_153 0 5 (dk_at dksL_law_129 13 rfl rfl)
theorem dL_law_3272 : decode cL_law 3272 = .ok (.iconst 0, 1) := dk_3 (dk_at dksL_law_129 16 rfl rfl)
theorem dL_law_3273 : decode cL_law 3273 = .ok (.ireturn, 1) := dk_172 (dk_at dksL_law_129 17 rfl rfl)
theorem dL_law_3274 : decode cL_law 3274 = .ok (.goto 912, 3) := dk_167 3 144 (dk_at dksL_law_129 18 rfl rfl)
theorem dL_law_3277 : decode cL_law 3277 = .ok (.aload_n 1, 1) := dk_43 (dk_at dksL_law_129 21 rfl rfl)
theorem dL_law_3278 : decode cL_law 3278 = .ok (.aload_n 3, 1) := dk_45 (dk_at dksL_law_129 22 rfl rfl)
theorem dL_law_3279 : decode cL_law 3279 = .ok (.invokestatic 363, 3) := dk_184 1 107 (dk_at dksL_law_130 0 rfl rfl)
theorem dL_law_3282 : decode cL_law 3282 = .ok (.istore 6, 2) := dk_54 6 (dk_at dksL_law_130 3 rfl rfl)
theorem dL_law_3284 : decode cL_law 3284 = .ok (.aload_n 2, 1) := dk_44 (dk_at dksL_law_130 5 rfl rfl)
theorem dL_law_3285 : decode cL_law 3285 = .ok (.invokevirtual 365, 3) := dk_182 1 109 (dk_at dksL_law_130 6 rfl rfl)
theorem dL_law_3288 : decode cL_law 3288 = .ok (.istore 7, 2) := dk_54 7 (dk_at dksL_law_130 9 rfl rfl)
theorem dL_law_3290 : decode cL_law 3290 = .ok (.aload_n 2, 1) := dk_44 (dk_at dksL_law_130 11 rfl rfl)
theorem dL_law_3291 : decode cL_law 3291 = .ok (.invokevirtual 216, 3) := dk_182 0 216 (dk_at dksL_law_130 12 rfl rfl)
theorem dL_law_3294 : decode cL_law 3294 = .ok (.iload 6, 2) := dk_21 6 (dk_at dksL_law_130 15 rfl rfl)
theorem dL_law_3296 : decode cL_law 3296 = .ok (.if_icmp .eq 5, 3) := dk_159 0 5 (dk_at dksL_law_130 17 rfl rfl)
theorem dL_law_3299 : decode cL_law 3299 = .ok (.iconst 0, 1) := dk_3 (dk_at dksL_law_130 20 rfl rfl)
theorem dL_law_3300 : decode cL_law 3300 = .ok (.ireturn, 1) := dk_172 (dk_at dksL_law_130 21 rfl rfl)
theorem dL_law_3301 : decode cL_law 3301 = .ok (.iload 6, 2) := dk_21 6 (dk_at dksL_law_130 22 rfl rfl)
theorem dL_law_3303 : decode cL_law 3303 = .ok (.ifCond .ne 15, 3) := dk_154 0 15 (dk_at dksL_law_131 0 rfl rfl)
theorem dL_law_3306 : decode cL_law 3306 = .ok (.aload_n 3, 1) := dk_45 (dk_at dksL_law_131 3 rfl rfl)
theorem dL_law_3307 : decode cL_law 3307 = .ok (.iconst 0, 1) := dk_3 (dk_at dksL_law_131 4 rfl rfl)
theorem dL_law_3308 : decode cL_law 3308 = .ok (.laload, 1) := dk_47 (dk_at dksL_law_131 5 rfl rfl)
theorem dL_law_3309 : decode cL_law 3309 = .ok (.iload 7, 2) := dk_21 7 (dk_at dksL_law_131 6 rfl rfl)
theorem dL_law_3311 : decode cL_law 3311 = .ok (.i2l, 1) := dk_133 (dk_at dksL_law_131 8 rfl rfl)
theorem dL_law_3312 : decode cL_law 3312 = .ok (.lcmp, 1) := dk_148 (dk_at dksL_law_131 9 rfl rfl)
theorem dL_law_3313 : decode cL_law 3313 = .ok (.ifCond .eq 5, 3) := dk_153 0 5 (dk_at dksL_law_131 10 rfl rfl)
theorem dL_law_3316 : decode cL_law 3316 = .ok (.iconst 0, 1) := dk_3 (dk_at dksL_law_131 13 rfl rfl)
theorem dL_law_3317 : decode cL_law 3317 = .ok (.ireturn, 1) := dk_172 (dk_at dksL_law_131 14 rfl rfl)
theorem dL_law_3318 : decode cL_law 3318 = .ok (.goto 868, 3) := dk_167 3 100 (dk_at dksL_law_131 15 rfl rfl)
theorem dL_law_3321 : decode cL_law 3321 = .ok (.aload_n 1, 1) := dk_43 (dk_at dksL_law_131 18 rfl rfl)
theorem dL_law_3322 : decode cL_law 3322 = .ok (.aload_n 0, 1) := dk_42 (dk_at dksL_law_131 19 rfl rfl)
theorem dL_law_3323 : decode cL_law 3323 = .ok (.iload 5, 2) := dk_21 5 (dk_at dksL_law_131 20 rfl rfl)
theorem dL_law_3325 : decode cL_law 3325 = .ok (.iconst 1, 1) := dk_4 (dk_at dksL_law_131 22 rfl rfl)
theorem dL_law_3326 : decode cL_law 3326 = .ok (.iadd, 1) := dk_96 (dk_at dksL_law_131 23 rfl rfl)
theorem dL_law_3327 : decode cL_law 3327 = .ok (.iaload, 1) := dk_46 (dk_at dksL_law_132 0 rfl rfl)
theorem dL_law_3328 : decode cL_law 3328 = .ok (.aload_n 3, 1) := dk_45 (dk_at dksL_law_132 1 rfl rfl)
theorem dL_law_3329 : decode cL_law 3329 = .ok (.invokestatic 366, 3) := dk_184 1 110 (dk_at dksL_law_132 2 rfl rfl)
theorem dL_law_3332 : decode cL_law 3332 = .ok (.istore 6, 2) := dk_54 6 (dk_at dksL_law_132 5 rfl rfl)
theorem dL_law_3334 : decode cL_law 3334 = .ok (.aload_n 2, 1) := dk_44 (dk_at dksL_law_132 7 rfl rfl)
theorem dL_law_3335 : decode cL_law 3335 = .ok (.aload_n 0, 1) := dk_42 (dk_at dksL_law_132 8 rfl rfl)
theorem dL_law_3336 : decode cL_law 3336 = .ok (.iload 5, 2) := dk_21 5 (dk_at dksL_law_132 9 rfl rfl)
theorem dL_law_3338 : decode cL_law 3338 = .ok (.iconst 1, 1) := dk_4 (dk_at dksL_law_132 11 rfl rfl)
theorem dL_law_3339 : decode cL_law 3339 = .ok (.iadd, 1) := dk_96 (dk_at dksL_law_132 12 rfl rfl)
theorem dL_law_3340 : decode cL_law 3340 = .ok (.iaload, 1) := dk_46 (dk_at dksL_law_132 13 rfl rfl)
theorem dL_law_3341 : decode cL_law 3341 = .ok (.invokevirtual 368, 3) := dk_182 1 112 (dk_at dksL_law_132 14 rfl rfl)
theorem dL_law_3344 : decode cL_law 3344 = .ok (.istore 7, 2) := dk_54 7 (dk_at dksL_law_132 17 rfl rfl)
theorem dL_law_3346 : decode cL_law 3346 = .ok (.aload_n 2, 1) := dk_44 (dk_at dksL_law_132 19 rfl rfl)
theorem dL_law_3347 : decode cL_law 3347 = .ok (.invokevirtual 216, 3) := dk_182 0 216 (dk_at dksL_law_132 20 rfl rfl)
theorem dL_law_3350 : decode cL_law 3350 = .ok (.iload 6, 2) := dk_21 6 (dk_at dksL_law_133 0 rfl rfl)
theorem dL_law_3352 : decode cL_law 3352 = .ok (.if_icmp .eq 5, 3) := dk_159 0 5 (dk_at dksL_law_133 2 rfl rfl)
theorem dL_law_3355 : decode cL_law 3355 = .ok (.iconst 0, 1) := dk_3 (dk_at dksL_law_133 5 rfl rfl)
theorem dL_law_3356 : decode cL_law 3356 = .ok (.ireturn, 1) := dk_172 (dk_at dksL_law_133 6 rfl rfl)
theorem dL_law_3357 : decode cL_law 3357 = .ok (.iload 6, 2) := dk_21 6 (dk_at dksL_law_133 7 rfl rfl)
theorem dL_law_3359 : decode cL_law 3359 = .ok (.ifCond .ne 15, 3) := dk_154 0 15 (dk_at dksL_law_133 9 rfl rfl)
theorem dL_law_3362 : decode cL_law 3362 = .ok (.aload_n 3, 1) := dk_45 (dk_at dksL_law_133 12 rfl rfl)
theorem dL_law_3363 : decode cL_law 3363 = .ok (.iconst 0, 1) := dk_3 (dk_at dksL_law_133 13 rfl rfl)
theorem dL_law_3364 : decode cL_law 3364 = .ok (.laload, 1) := dk_47 (dk_at dksL_law_133 14 rfl rfl)
theorem dL_law_3365 : decode cL_law 3365 = .ok (.iload 7, 2) := dk_21 7 (dk_at dksL_law_133 15 rfl rfl)
theorem dL_law_3367 : decode cL_law 3367 = .ok (.i2l, 1) := dk_133 (dk_at dksL_law_133 17 rfl rfl)
theorem dL_law_3368 : decode cL_law 3368 = .ok (.lcmp, 1) := dk_148 (dk_at dksL_law_133 18 rfl rfl)
theorem dL_law_3369 : decode cL_law 3369 = .ok (.ifCond .eq 5, 3) := dk_153 0 5 (dk_at dksL_law_133 19 rfl rfl)
theorem dL_law_3372 : decode cL_law 3372 = .ok (.iconst 0, 1) := dk_3 (dk_at dksL_law_133 22 rfl rfl)
theorem dL_law_3373 : decode cL_law 3373 = .ok (.ireturn, 1) := dk_172 (dk_at dksL_law_133 23 rfl rfl)
theorem dL_law_3374 : decode cL_law 3374 = .ok (.goto 812, 3) := dk_167 3 44 (dk_at dksL_law_134 0 rfl rfl)
theorem dL_law_3377 : decode cL_law 3377 = .ok (.aload_n 1, 1) := dk_43 (dk_at dksL_law_134 3 rfl rfl)
theorem dL_law_3378 : decode cL_law 3378 = .ok (.aload_n 0, 1) := dk_42 (dk_at dksL_law_134 4 rfl rfl)
theorem dL_law_3379 : decode cL_law 3379 = .ok (.iload 5, 2) := dk_21 5 (dk_at dksL_law_134 5 rfl rfl)
theorem dL_law_3381 : decode cL_law 3381 = .ok (.iconst 1, 1) := dk_4 (dk_at dksL_law_134 7 rfl rfl)
theorem dL_law_3382 : decode cL_law 3382 = .ok (.iadd, 1) := dk_96 (dk_at dksL_law_134 8 rfl rfl)
theorem dL_law_3383 : decode cL_law 3383 = .ok (.iaload, 1) := dk_46 (dk_at dksL_law_134 9 rfl rfl)
theorem dL_law_3384 : decode cL_law 3384 = .ok (.aload_n 0, 1) := dk_42 (dk_at dksL_law_134 10 rfl rfl)
theorem dL_law_3385 : decode cL_law 3385 = .ok (.iload 5, 2) := dk_21 5 (dk_at dksL_law_134 11 rfl rfl)
theorem dL_law_3387 : decode cL_law 3387 = .ok (.iconst 2, 1) := dk_5 (dk_at dksL_law_134 13 rfl rfl)
theorem dL_law_3388 : decode cL_law 3388 = .ok (.iadd, 1) := dk_96 (dk_at dksL_law_134 14 rfl rfl)
theorem dL_law_3389 : decode cL_law 3389 = .ok (.iaload, 1) := dk_46 (dk_at dksL_law_134 15 rfl rfl)
theorem dL_law_3390 : decode cL_law 3390 = .ok (.aload_n 3, 1) := dk_45 (dk_at dksL_law_134 16 rfl rfl)
theorem dL_law_3391 : decode cL_law 3391 = .ok (.invokestatic 369, 3) := dk_184 1 113 (dk_at dksL_law_134 17 rfl rfl)
theorem dL_law_3394 : decode cL_law 3394 = .ok (.istore 6, 2) := dk_54 6 (dk_at dksL_law_134 20 rfl rfl)
theorem dL_law_3396 : decode cL_law 3396 = .ok (.aload_n 2, 1) := dk_44 (dk_at dksL_law_134 22 rfl rfl)
theorem dL_law_3397 : decode cL_law 3397 = .ok (.aload_n 0, 1) := dk_42 (dk_at dksL_law_134 23 rfl rfl)
theorem dL_law_3398 : decode cL_law 3398 = .ok (.iload 5, 2) := dk_21 5 (dk_at dksL_law_135 0 rfl rfl)
theorem dL_law_3400 : decode cL_law 3400 = .ok (.iconst 1, 1) := dk_4 (dk_at dksL_law_135 2 rfl rfl)
theorem dL_law_3401 : decode cL_law 3401 = .ok (.iadd, 1) := dk_96 (dk_at dksL_law_135 3 rfl rfl)
theorem dL_law_3402 : decode cL_law 3402 = .ok (.iaload, 1) := dk_46 (dk_at dksL_law_135 4 rfl rfl)
theorem dL_law_3403 : decode cL_law 3403 = .ok (.aload_n 0, 1) := dk_42 (dk_at dksL_law_135 5 rfl rfl)
theorem dL_law_3404 : decode cL_law 3404 = .ok (.iload 5, 2) := dk_21 5 (dk_at dksL_law_135 6 rfl rfl)
theorem dL_law_3406 : decode cL_law 3406 = .ok (.iconst 2, 1) := dk_5 (dk_at dksL_law_135 8 rfl rfl)
theorem dL_law_3407 : decode cL_law 3407 = .ok (.iadd, 1) := dk_96 (dk_at dksL_law_135 9 rfl rfl)
theorem dL_law_3408 : decode cL_law 3408 = .ok (.iaload, 1) := dk_46 (dk_at dksL_law_135 10 rfl rfl)
theorem dL_law_3409 : decode cL_law 3409 = .ok (.invokevirtual 371, 3) := dk_182 1 115 (dk_at dksL_law_135 11 rfl rfl)
theorem dL_law_3412 : decode cL_law 3412 = .ok (.istore 7, 2) := dk_54 7 (dk_at dksL_law_135 14 rfl rfl)
theorem dL_law_3414 : decode cL_law 3414 = .ok (.aload_n 2, 1) := dk_44 (dk_at dksL_law_135 16 rfl rfl)
theorem dL_law_3415 : decode cL_law 3415 = .ok (.invokevirtual 216, 3) := dk_182 0 216 (dk_at dksL_law_135 17 rfl rfl)
theorem dL_law_3418 : decode cL_law 3418 = .ok (.iload 6, 2) := dk_21 6 (dk_at dksL_law_135 20 rfl rfl)
theorem dL_law_3420 : decode cL_law 3420 = .ok (.if_icmp .eq 5, 3) := dk_159 0 5 (dk_at dksL_law_136 0 rfl rfl)
theorem dL_law_3423 : decode cL_law 3423 = .ok (.iconst 0, 1) := dk_3 (dk_at dksL_law_136 3 rfl rfl)
theorem dL_law_3424 : decode cL_law 3424 = .ok (.ireturn, 1) := dk_172 (dk_at dksL_law_136 4 rfl rfl)
theorem dL_law_3425 : decode cL_law 3425 = .ok (.iload 6, 2) := dk_21 6 (dk_at dksL_law_136 5 rfl rfl)
theorem dL_law_3427 : decode cL_law 3427 = .ok (.ifCond .ne 15, 3) := dk_154 0 15 (dk_at dksL_law_136 7 rfl rfl)
theorem dL_law_3430 : decode cL_law 3430 = .ok (.aload_n 3, 1) := dk_45 (dk_at dksL_law_136 10 rfl rfl)
theorem dL_law_3431 : decode cL_law 3431 = .ok (.iconst 0, 1) := dk_3 (dk_at dksL_law_136 11 rfl rfl)
theorem dL_law_3432 : decode cL_law 3432 = .ok (.laload, 1) := dk_47 (dk_at dksL_law_136 12 rfl rfl)
theorem dL_law_3433 : decode cL_law 3433 = .ok (.iload 7, 2) := dk_21 7 (dk_at dksL_law_136 13 rfl rfl)
theorem dL_law_3435 : decode cL_law 3435 = .ok (.i2l, 1) := dk_133 (dk_at dksL_law_136 15 rfl rfl)
theorem dL_law_3436 : decode cL_law 3436 = .ok (.lcmp, 1) := dk_148 (dk_at dksL_law_136 16 rfl rfl)
theorem dL_law_3437 : decode cL_law 3437 = .ok (.ifCond .eq 5, 3) := dk_153 0 5 (dk_at dksL_law_136 17 rfl rfl)
theorem dL_law_3440 : decode cL_law 3440 = .ok (.iconst 0, 1) := dk_3 (dk_at dksL_law_136 20 rfl rfl)
theorem dL_law_3441 : decode cL_law 3441 = .ok (.ireturn, 1) := dk_172 (dk_at dksL_law_136 21 rfl rfl)
theorem dL_law_3442 : decode cL_law 3442 = .ok (.goto 744, 3) := dk_167 2 232 (dk_at dksL_law_137 0 rfl rfl)
theorem dL_law_3445 : decode cL_law 3445 = .ok (.aload_n 1, 1) := dk_43 (dk_at dksL_law_137 3 rfl rfl)
theorem dL_law_3446 : decode cL_law 3446 = .ok (.aload_n 0, 1) := dk_42 (dk_at dksL_law_137 4 rfl rfl)
theorem dL_law_3447 : decode cL_law 3447 = .ok (.iload 5, 2) := dk_21 5 (dk_at dksL_law_137 5 rfl rfl)
theorem dL_law_3449 : decode cL_law 3449 = .ok (.iconst 1, 1) := dk_4 (dk_at dksL_law_137 7 rfl rfl)
theorem dL_law_3450 : decode cL_law 3450 = .ok (.iadd, 1) := dk_96 (dk_at dksL_law_137 8 rfl rfl)
theorem dL_law_3451 : decode cL_law 3451 = .ok (.iaload, 1) := dk_46 (dk_at dksL_law_137 9 rfl rfl)
theorem dL_law_3452 : decode cL_law 3452 = .ok (.aload_n 0, 1) := dk_42 (dk_at dksL_law_137 10 rfl rfl)
theorem dL_law_3453 : decode cL_law 3453 = .ok (.iload 5, 2) := dk_21 5 (dk_at dksL_law_137 11 rfl rfl)
theorem dL_law_3455 : decode cL_law 3455 = .ok (.iconst 2, 1) := dk_5 (dk_at dksL_law_137 13 rfl rfl)
theorem dL_law_3456 : decode cL_law 3456 = .ok (.iadd, 1) := dk_96 (dk_at dksL_law_137 14 rfl rfl)
theorem dL_law_3457 : decode cL_law 3457 = .ok (.iaload, 1) := dk_46 (dk_at dksL_law_137 15 rfl rfl)
theorem dL_law_3458 : decode cL_law 3458 = .ok (.aload_n 3, 1) := dk_45 (dk_at dksL_law_137 16 rfl rfl)
theorem dL_law_3459 : decode cL_law 3459 = .ok (.invokestatic 372, 3) := dk_184 1 116 (dk_at dksL_law_137 17 rfl rfl)
theorem dL_law_3462 : decode cL_law 3462 = .ok (.istore 6, 2) := dk_54 6 (dk_at dksL_law_137 20 rfl rfl)
theorem dL_law_3464 : decode cL_law 3464 = .ok (.aload_n 2, 1) := dk_44 (dk_at dksL_law_137 22 rfl rfl)
theorem dL_law_3465 : decode cL_law 3465 = .ok (.aload_n 0, 1) := dk_42 (dk_at dksL_law_137 23 rfl rfl)
theorem dL_law_3466 : decode cL_law 3466 = .ok (.iload 5, 2) := dk_21 5 (dk_at dksL_law_138 0 rfl rfl)
theorem dL_law_3468 : decode cL_law 3468 = .ok (.iconst 1, 1) := dk_4 (dk_at dksL_law_138 2 rfl rfl)
theorem dL_law_3469 : decode cL_law 3469 = .ok (.iadd, 1) := dk_96 (dk_at dksL_law_138 3 rfl rfl)
theorem dL_law_3470 : decode cL_law 3470 = .ok (.iaload, 1) := dk_46 (dk_at dksL_law_138 4 rfl rfl)
theorem dL_law_3471 : decode cL_law 3471 = .ok (.aload_n 0, 1) := dk_42 (dk_at dksL_law_138 5 rfl rfl)
theorem dL_law_3472 : decode cL_law 3472 = .ok (.iload 5, 2) := dk_21 5 (dk_at dksL_law_138 6 rfl rfl)
theorem dL_law_3474 : decode cL_law 3474 = .ok (.iconst 2, 1) := dk_5 (dk_at dksL_law_138 8 rfl rfl)
theorem dL_law_3475 : decode cL_law 3475 = .ok (.iadd, 1) := dk_96 (dk_at dksL_law_138 9 rfl rfl)
theorem dL_law_3476 : decode cL_law 3476 = .ok (.iaload, 1) := dk_46 (dk_at dksL_law_138 10 rfl rfl)
theorem dL_law_3477 : decode cL_law 3477 = .ok (.invokevirtual 374, 3) := dk_182 1 118 (dk_at dksL_law_138 11 rfl rfl)
theorem dL_law_3480 : decode cL_law 3480 = .ok (.istore 7, 2) := dk_54 7 (dk_at dksL_law_138 14 rfl rfl)
theorem dL_law_3482 : decode cL_law 3482 = .ok (.aload_n 2, 1) := dk_44 (dk_at dksL_law_138 16 rfl rfl)
theorem dL_law_3483 : decode cL_law 3483 = .ok (.invokevirtual 216, 3) := dk_182 0 216 (dk_at dksL_law_138 17 rfl rfl)
theorem dL_law_3486 : decode cL_law 3486 = .ok (.iload 6, 2) := dk_21 6 (dk_at dksL_law_138 20 rfl rfl)
theorem dL_law_3488 : decode cL_law 3488 = .ok (.if_icmp .eq 5, 3) := dk_159 0 5 (dk_at dksL_law_139 0 rfl rfl)
theorem dL_law_3491 : decode cL_law 3491 = .ok (.iconst 0, 1) := dk_3 (dk_at dksL_law_139 3 rfl rfl)
theorem dL_law_3492 : decode cL_law 3492 = .ok (.ireturn, 1) := dk_172 (dk_at dksL_law_139 4 rfl rfl)
theorem dL_law_3493 : decode cL_law 3493 = .ok (.iload 6, 2) := dk_21 6 (dk_at dksL_law_139 5 rfl rfl)
theorem dL_law_3495 : decode cL_law 3495 = .ok (.ifCond .ne 15, 3) := dk_154 0 15 (dk_at dksL_law_139 7 rfl rfl)
theorem dL_law_3498 : decode cL_law 3498 = .ok (.aload_n 3, 1) := dk_45 (dk_at dksL_law_139 10 rfl rfl)
theorem dL_law_3499 : decode cL_law 3499 = .ok (.iconst 0, 1) := dk_3 (dk_at dksL_law_139 11 rfl rfl)
theorem dL_law_3500 : decode cL_law 3500 = .ok (.laload, 1) := dk_47 (dk_at dksL_law_139 12 rfl rfl)
theorem dL_law_3501 : decode cL_law 3501 = .ok (.iload 7, 2) := dk_21 7 (dk_at dksL_law_139 13 rfl rfl)
theorem dL_law_3503 : decode cL_law 3503 = .ok (.i2l, 1) := dk_133 (dk_at dksL_law_139 15 rfl rfl)
theorem dL_law_3504 : decode cL_law 3504 = .ok (.lcmp, 1) := dk_148 (dk_at dksL_law_139 16 rfl rfl)
theorem dL_law_3505 : decode cL_law 3505 = .ok (.ifCond .eq 5, 3) := dk_153 0 5 (dk_at dksL_law_139 17 rfl rfl)
theorem dL_law_3508 : decode cL_law 3508 = .ok (.iconst 0, 1) := dk_3 (dk_at dksL_law_139 20 rfl rfl)
theorem dL_law_3509 : decode cL_law 3509 = .ok (.ireturn, 1) := dk_172 (dk_at dksL_law_139 21 rfl rfl)
theorem dL_law_3510 : decode cL_law 3510 = .ok (.goto 676, 3) := dk_167 2 164 (dk_at dksL_law_140 0 rfl rfl)
theorem dL_law_3513 : decode cL_law 3513 = .ok (.aload_n 1, 1) := dk_43 (dk_at dksL_law_140 3 rfl rfl)
theorem dL_law_3514 : decode cL_law 3514 = .ok (.aload_n 0, 1) := dk_42 (dk_at dksL_law_140 4 rfl rfl)
theorem dL_law_3515 : decode cL_law 3515 = .ok (.iload 5, 2) := dk_21 5 (dk_at dksL_law_140 5 rfl rfl)
theorem dL_law_3517 : decode cL_law 3517 = .ok (.iconst 1, 1) := dk_4 (dk_at dksL_law_140 7 rfl rfl)
theorem dL_law_3518 : decode cL_law 3518 = .ok (.iadd, 1) := dk_96 (dk_at dksL_law_140 8 rfl rfl)
theorem dL_law_3519 : decode cL_law 3519 = .ok (.iaload, 1) := dk_46 (dk_at dksL_law_140 9 rfl rfl)
theorem dL_law_3520 : decode cL_law 3520 = .ok (.aload_n 3, 1) := dk_45 (dk_at dksL_law_140 10 rfl rfl)
theorem dL_law_3521 : decode cL_law 3521 = .ok (.invokestatic 375, 3) := dk_184 1 119 (dk_at dksL_law_140 11 rfl rfl)
theorem dL_law_3524 : decode cL_law 3524 = .ok (.istore 6, 2) := dk_54 6 (dk_at dksL_law_140 14 rfl rfl)
theorem dL_law_3526 : decode cL_law 3526 = .ok (.aload_n 2, 1) := dk_44 (dk_at dksL_law_140 16 rfl rfl)
theorem dL_law_3527 : decode cL_law 3527 = .ok (.aload_n 0, 1) := dk_42 (dk_at dksL_law_140 17 rfl rfl)
theorem dL_law_3528 : decode cL_law 3528 = .ok (.iload 5, 2) := dk_21 5 (dk_at dksL_law_140 18 rfl rfl)
theorem dL_law_3530 : decode cL_law 3530 = .ok (.iconst 1, 1) := dk_4 (dk_at dksL_law_140 20 rfl rfl)
theorem dL_law_3531 : decode cL_law 3531 = .ok (.iadd, 1) := dk_96 (dk_at dksL_law_140 21 rfl rfl)
theorem dL_law_3532 : decode cL_law 3532 = .ok (.iaload, 1) := dk_46 (dk_at dksL_law_140 22 rfl rfl)
theorem dL_law_3533 : decode cL_law 3533 = .ok (.invokevirtual 377, 3) := dk_182 1 121 (dk_at dksL_law_141 0 rfl rfl)
theorem dL_law_3536 : decode cL_law 3536 = .ok (.istore 7, 2) := dk_54 7 (dk_at dksL_law_141 3 rfl rfl)
theorem dL_law_3538 : decode cL_law 3538 = .ok (.aload_n 2, 1) := dk_44 (dk_at dksL_law_141 5 rfl rfl)
theorem dL_law_3539 : decode cL_law 3539 = .ok (.invokevirtual 216, 3) := dk_182 0 216 (dk_at dksL_law_141 6 rfl rfl)
theorem dL_law_3542 : decode cL_law 3542 = .ok (.iload 6, 2) := dk_21 6 (dk_at dksL_law_141 9 rfl rfl)
theorem dL_law_3544 : decode cL_law 3544 = .ok (.if_icmp .eq 5, 3) := dk_159 0 5 (dk_at dksL_law_141 11 rfl rfl)
theorem dL_law_3547 : decode cL_law 3547 = .ok (.iconst 0, 1) := dk_3 (dk_at dksL_law_141 14 rfl rfl)
theorem dL_law_3548 : decode cL_law 3548 = .ok (.ireturn, 1) := dk_172 (dk_at dksL_law_141 15 rfl rfl)
theorem dL_law_3549 : decode cL_law 3549 = .ok (.iload 6, 2) := dk_21 6 (dk_at dksL_law_141 16 rfl rfl)
theorem dL_law_3551 : decode cL_law 3551 = .ok (.ifCond .ne 15, 3) := dk_154 0 15 (dk_at dksL_law_141 18 rfl rfl)
theorem dL_law_3554 : decode cL_law 3554 = .ok (.aload_n 3, 1) := dk_45 (dk_at dksL_law_141 21 rfl rfl)
theorem dL_law_3555 : decode cL_law 3555 = .ok (.iconst 0, 1) := dk_3 (dk_at dksL_law_141 22 rfl rfl)
theorem dL_law_3556 : decode cL_law 3556 = .ok (.laload, 1) := dk_47 (dk_at dksL_law_141 23 rfl rfl)
theorem dL_law_3557 : decode cL_law 3557 = .ok (.iload 7, 2) := dk_21 7 (dk_at dksL_law_142 0 rfl rfl)
theorem dL_law_3559 : decode cL_law 3559 = .ok (.i2l, 1) := dk_133 (dk_at dksL_law_142 2 rfl rfl)
theorem dL_law_3560 : decode cL_law 3560 = .ok (.lcmp, 1) := dk_148 (dk_at dksL_law_142 3 rfl rfl)
theorem dL_law_3561 : decode cL_law 3561 = .ok (.ifCond .eq 5, 3) := dk_153 0 5 (dk_at dksL_law_142 4 rfl rfl)
theorem dL_law_3564 : decode cL_law 3564 = .ok (.iconst 0, 1) := dk_3 (dk_at dksL_law_142 7 rfl rfl)
theorem dL_law_3565 : decode cL_law 3565 = .ok (.ireturn, 1) := dk_172 (dk_at dksL_law_142 8 rfl rfl)
theorem dL_law_3566 : decode cL_law 3566 = .ok (.goto 620, 3) := dk_167 2 108 (dk_at dksL_law_142 9 rfl rfl)
theorem dL_law_3569 : decode cL_law 3569 = .ok (.aload_n 1, 1) := dk_43 (dk_at dksL_law_142 12 rfl rfl)
theorem dL_law_3570 : decode cL_law 3570 = .ok (.aload_n 0, 1) := dk_42 (dk_at dksL_law_142 13 rfl rfl)
theorem dL_law_3571 : decode cL_law 3571 = .ok (.iload 5, 2) := dk_21 5 (dk_at dksL_law_142 14 rfl rfl)
theorem dL_law_3573 : decode cL_law 3573 = .ok (.iconst 1, 1) := dk_4 (dk_at dksL_law_142 16 rfl rfl)
theorem dL_law_3574 : decode cL_law 3574 = .ok (.iadd, 1) := dk_96 (dk_at dksL_law_142 17 rfl rfl)
theorem dL_law_3575 : decode cL_law 3575 = .ok (.iaload, 1) := dk_46 (dk_at dksL_law_142 18 rfl rfl)
theorem dL_law_3576 : decode cL_law 3576 = .ok (.aload_n 3, 1) := dk_45 (dk_at dksL_law_142 19 rfl rfl)
theorem dL_law_3577 : decode cL_law 3577 = .ok (.invokestatic 378, 3) := dk_184 1 122 (dk_at dksL_law_142 20 rfl rfl)
theorem dL_law_3580 : decode cL_law 3580 = .ok (.istore 6, 2) := dk_54 6 (dk_at dksL_law_143 0 rfl rfl)
theorem dL_law_3582 : decode cL_law 3582 = .ok (.aload_n 2, 1) := dk_44 (dk_at dksL_law_143 2 rfl rfl)
theorem dL_law_3583 : decode cL_law 3583 = .ok (.aload_n 0, 1) := dk_42 (dk_at dksL_law_143 3 rfl rfl)
theorem dL_law_3584 : decode cL_law 3584 = .ok (.iload 5, 2) := dk_21 5 (dk_at dksL_law_143 4 rfl rfl)
theorem dL_law_3586 : decode cL_law 3586 = .ok (.iconst 1, 1) := dk_4 (dk_at dksL_law_143 6 rfl rfl)
theorem dL_law_3587 : decode cL_law 3587 = .ok (.iadd, 1) := dk_96 (dk_at dksL_law_143 7 rfl rfl)
theorem dL_law_3588 : decode cL_law 3588 = .ok (.iaload, 1) := dk_46 (dk_at dksL_law_143 8 rfl rfl)
theorem dL_law_3589 : decode cL_law 3589 = .ok (.invokevirtual 380, 3) := dk_182 1 124 (dk_at dksL_law_143 9 rfl rfl)
theorem dL_law_3592 : decode cL_law 3592 = .ok (.istore 7, 2) := dk_54 7 (dk_at dksL_law_143 12 rfl rfl)
theorem dL_law_3594 : decode cL_law 3594 = .ok (.aload_n 2, 1) := dk_44 (dk_at dksL_law_143 14 rfl rfl)
theorem dL_law_3595 : decode cL_law 3595 = .ok (.invokevirtual 216, 3) := dk_182 0 216 (dk_at dksL_law_143 15 rfl rfl)
theorem dL_law_3598 : decode cL_law 3598 = .ok (.iload 6, 2) := dk_21 6 (dk_at dksL_law_143 18 rfl rfl)
theorem dL_law_3600 : decode cL_law 3600 = .ok (.if_icmp .eq 5, 3) := dk_159 0 5 (dk_at dksL_law_143 20 rfl rfl)
theorem dL_law_3603 : decode cL_law 3603 = .ok (.iconst 0, 1) := dk_3 (dk_at dksL_law_143 23 rfl rfl)
theorem dL_law_3604 : decode cL_law 3604 = .ok (.ireturn, 1) := dk_172 (dk_at dksL_law_144 0 rfl rfl)
theorem dL_law_3605 : decode cL_law 3605 = .ok (.iload 6, 2) := dk_21 6 (dk_at dksL_law_144 1 rfl rfl)
theorem dL_law_3607 : decode cL_law 3607 = .ok (.ifCond .ne 15, 3) := dk_154 0 15 (dk_at dksL_law_144 3 rfl rfl)
theorem dL_law_3610 : decode cL_law 3610 = .ok (.aload_n 3, 1) := dk_45 (dk_at dksL_law_144 6 rfl rfl)
theorem dL_law_3611 : decode cL_law 3611 = .ok (.iconst 0, 1) := dk_3 (dk_at dksL_law_144 7 rfl rfl)
theorem dL_law_3612 : decode cL_law 3612 = .ok (.laload, 1) := dk_47 (dk_at dksL_law_144 8 rfl rfl)
theorem dL_law_3613 : decode cL_law 3613 = .ok (.iload 7, 2) := dk_21 7 (dk_at dksL_law_144 9 rfl rfl)
theorem dL_law_3615 : decode cL_law 3615 = .ok (.i2l, 1) := dk_133 (dk_at dksL_law_144 11 rfl rfl)
theorem dL_law_3616 : decode cL_law 3616 = .ok (.lcmp, 1) := dk_148 (dk_at dksL_law_144 12 rfl rfl)
theorem dL_law_3617 : decode cL_law 3617 = .ok (.ifCond .eq 5, 3) := dk_153 0 5 (dk_at dksL_law_144 13 rfl rfl)
theorem dL_law_3620 : decode cL_law 3620 = .ok (.iconst 0, 1) := dk_3 (dk_at dksL_law_144 16 rfl rfl)
theorem dL_law_3621 : decode cL_law 3621 = .ok (.ireturn, 1) := dk_172 (dk_at dksL_law_144 17 rfl rfl)
theorem dL_law_3622 : decode cL_law 3622 = .ok (.goto 564, 3) := dk_167 2 52 (dk_at dksL_law_144 18 rfl rfl)
theorem dL_law_3625 : decode cL_law 3625 = .ok (.aload_n 1, 1) := dk_43 (dk_at dksL_law_144 21 rfl rfl)
theorem dL_law_3626 : decode cL_law 3626 = .ok (.aload_n 0, 1) := dk_42 (dk_at dksL_law_144 22 rfl rfl)
theorem dL_law_3627 : decode cL_law 3627 = .ok (.iload 5, 2) := dk_21 5 (dk_at dksL_law_145 0 rfl rfl)
theorem dL_law_3629 : decode cL_law 3629 = .ok (.iconst 1, 1) := dk_4 (dk_at dksL_law_145 2 rfl rfl)
theorem dL_law_3630 : decode cL_law 3630 = .ok (.iadd, 1) := dk_96 (dk_at dksL_law_145 3 rfl rfl)
theorem dL_law_3631 : decode cL_law 3631 = .ok (.iaload, 1) := dk_46 (dk_at dksL_law_145 4 rfl rfl)
theorem dL_law_3632 : decode cL_law 3632 = .ok (.aload_n 0, 1) := dk_42 (dk_at dksL_law_145 5 rfl rfl)
theorem dL_law_3633 : decode cL_law 3633 = .ok (.iload 5, 2) := dk_21 5 (dk_at dksL_law_145 6 rfl rfl)
theorem dL_law_3635 : decode cL_law 3635 = .ok (.iconst 2, 1) := dk_5 (dk_at dksL_law_145 8 rfl rfl)
theorem dL_law_3636 : decode cL_law 3636 = .ok (.iadd, 1) := dk_96 (dk_at dksL_law_145 9 rfl rfl)
theorem dL_law_3637 : decode cL_law 3637 = .ok (.iaload, 1) := dk_46 (dk_at dksL_law_145 10 rfl rfl)
theorem dL_law_3638 : decode cL_law 3638 = .ok (.aload_n 0, 1) := dk_42 (dk_at dksL_law_145 11 rfl rfl)
theorem dL_law_3639 : decode cL_law 3639 = .ok (.iload 5, 2) := dk_21 5 (dk_at dksL_law_145 12 rfl rfl)
theorem dL_law_3641 : decode cL_law 3641 = .ok (.iconst 3, 1) := dk_6 (dk_at dksL_law_145 14 rfl rfl)
theorem dL_law_3642 : decode cL_law 3642 = .ok (.iadd, 1) := dk_96 (dk_at dksL_law_145 15 rfl rfl)
theorem dL_law_3643 : decode cL_law 3643 = .ok (.iaload, 1) := dk_46 (dk_at dksL_law_145 16 rfl rfl)
theorem dL_law_3644 : decode cL_law 3644 = .ok (.aload_n 3, 1) := dk_45 (dk_at dksL_law_145 17 rfl rfl)
theorem dL_law_3645 : decode cL_law 3645 = .ok (.invokestatic 381, 3) := dk_184 1 125 (dk_at dksL_law_145 18 rfl rfl)
theorem dL_law_3648 : decode cL_law 3648 = .ok (.istore 6, 2) := dk_54 6 (dk_at dksL_law_145 21 rfl rfl)
theorem dL_law_3650 : decode cL_law 3650 = .ok (.aload_n 2, 1) := dk_44 (dk_at dksL_law_145 23 rfl rfl)
theorem dL_law_3651 : decode cL_law 3651 = .ok (.aload_n 0, 1) := dk_42 (dk_at dksL_law_146 0 rfl rfl)
theorem dL_law_3652 : decode cL_law 3652 = .ok (.iload 5, 2) := dk_21 5 (dk_at dksL_law_146 1 rfl rfl)
theorem dL_law_3654 : decode cL_law 3654 = .ok (.iconst 1, 1) := dk_4 (dk_at dksL_law_146 3 rfl rfl)
theorem dL_law_3655 : decode cL_law 3655 = .ok (.iadd, 1) := dk_96 (dk_at dksL_law_146 4 rfl rfl)
theorem dL_law_3656 : decode cL_law 3656 = .ok (.iaload, 1) := dk_46 (dk_at dksL_law_146 5 rfl rfl)
theorem dL_law_3657 : decode cL_law 3657 = .ok (.aload_n 0, 1) := dk_42 (dk_at dksL_law_146 6 rfl rfl)
theorem dL_law_3658 : decode cL_law 3658 = .ok (.iload 5, 2) := dk_21 5 (dk_at dksL_law_146 7 rfl rfl)
theorem dL_law_3660 : decode cL_law 3660 = .ok (.iconst 2, 1) := dk_5 (dk_at dksL_law_146 9 rfl rfl)
theorem dL_law_3661 : decode cL_law 3661 = .ok (.iadd, 1) := dk_96 (dk_at dksL_law_146 10 rfl rfl)
theorem dL_law_3662 : decode cL_law 3662 = .ok (.iaload, 1) := dk_46 (dk_at dksL_law_146 11 rfl rfl)
theorem dL_law_3663 : decode cL_law 3663 = .ok (.aload_n 0, 1) := dk_42 (dk_at dksL_law_146 12 rfl rfl)
theorem dL_law_3664 : decode cL_law 3664 = .ok (.iload 5, 2) := dk_21 5 (dk_at dksL_law_146 13 rfl rfl)
theorem dL_law_3666 : decode cL_law 3666 = .ok (.iconst 3, 1) := dk_6 (dk_at dksL_law_146 15 rfl rfl)
theorem dL_law_3667 : decode cL_law 3667 = .ok (.iadd, 1) := dk_96 (dk_at dksL_law_146 16 rfl rfl)
theorem dL_law_3668 : decode cL_law 3668 = .ok (.iaload, 1) := dk_46 (dk_at dksL_law_146 17 rfl rfl)
theorem dL_law_3669 : decode cL_law 3669 = .ok (.invokevirtual 383, 3) := dk_182 1 127 (dk_at dksL_law_146 18 rfl rfl)
theorem dL_law_3672 : decode cL_law 3672 = .ok (.istore 7, 2) := dk_54 7 (dk_at dksL_law_146 21 rfl rfl)
theorem dL_law_3674 : decode cL_law 3674 = .ok (.aload_n 2, 1) := dk_44 (dk_at dksL_law_146 23 rfl rfl)
theorem dL_law_3675 : decode cL_law 3675 = .ok (.invokevirtual 216, 3) := dk_182 0 216 (dk_at dksL_law_147 0 rfl rfl)
theorem dL_law_3678 : decode cL_law 3678 = .ok (.iload 6, 2) := dk_21 6 (dk_at dksL_law_147 3 rfl rfl)
theorem dL_law_3680 : decode cL_law 3680 = .ok (.if_icmp .eq 5, 3) := dk_159 0 5 (dk_at dksL_law_147 5 rfl rfl)
theorem dL_law_3683 : decode cL_law 3683 = .ok (.iconst 0, 1) := dk_3 (dk_at dksL_law_147 8 rfl rfl)
theorem dL_law_3684 : decode cL_law 3684 = .ok (.ireturn, 1) := dk_172 (dk_at dksL_law_147 9 rfl rfl)
theorem dL_law_3685 : decode cL_law 3685 = .ok (.iload 6, 2) := dk_21 6 (dk_at dksL_law_147 10 rfl rfl)
theorem dL_law_3687 : decode cL_law 3687 = .ok (.ifCond .ne 15, 3) := dk_154 0 15 (dk_at dksL_law_147 12 rfl rfl)
theorem dL_law_3690 : decode cL_law 3690 = .ok (.aload_n 3, 1) := dk_45 (dk_at dksL_law_147 15 rfl rfl)
theorem dL_law_3691 : decode cL_law 3691 = .ok (.iconst 0, 1) := dk_3 (dk_at dksL_law_147 16 rfl rfl)
theorem dL_law_3692 : decode cL_law 3692 = .ok (.laload, 1) := dk_47 (dk_at dksL_law_147 17 rfl rfl)
theorem dL_law_3693 : decode cL_law 3693 = .ok (.iload 7, 2) := dk_21 7 (dk_at dksL_law_147 18 rfl rfl)
theorem dL_law_3695 : decode cL_law 3695 = .ok (.i2l, 1) := dk_133 (dk_at dksL_law_147 20 rfl rfl)
theorem dL_law_3696 : decode cL_law 3696 = .ok (.lcmp, 1) := dk_148 (dk_at dksL_law_147 21 rfl rfl)
theorem dL_law_3697 : decode cL_law 3697 = .ok (.ifCond .eq 5, 3) := dk_153 0 5 (dk_at dksL_law_148 0 rfl rfl)
theorem dL_law_3700 : decode cL_law 3700 = .ok (.iconst 0, 1) := dk_3 (dk_at dksL_law_148 3 rfl rfl)
theorem dL_law_3701 : decode cL_law 3701 = .ok (.ireturn, 1) := dk_172 (dk_at dksL_law_148 4 rfl rfl)
theorem dL_law_3702 : decode cL_law 3702 = .ok (.goto 484, 3) := dk_167 1 228 (dk_at dksL_law_148 5 rfl rfl)
theorem dL_law_3705 : decode cL_law 3705 = .ok (.aload_n 1, 1) := dk_43 (dk_at dksL_law_148 8 rfl rfl)
theorem dL_law_3706 : decode cL_law 3706 = .ok (.aload_n 3, 1) := dk_45 (dk_at dksL_law_148 9 rfl rfl)
theorem dL_law_3707 : decode cL_law 3707 = .ok (.invokestatic 384, 3) := dk_184 1 128 (dk_at dksL_law_148 10 rfl rfl)
theorem dL_law_3710 : decode cL_law 3710 = .ok (.istore 6, 2) := dk_54 6 (dk_at dksL_law_148 13 rfl rfl)
theorem dL_law_3712 : decode cL_law 3712 = .ok (.aload_n 2, 1) := dk_44 (dk_at dksL_law_148 15 rfl rfl)
theorem dL_law_3713 : decode cL_law 3713 = .ok (.invokevirtual 386, 3) := dk_182 1 130 (dk_at dksL_law_148 16 rfl rfl)
theorem dL_law_3716 : decode cL_law 3716 = .ok (.istore 7, 2) := dk_54 7 (dk_at dksL_law_148 19 rfl rfl)
theorem dL_law_3718 : decode cL_law 3718 = .ok (.aload_n 2, 1) := dk_44 (dk_at dksL_law_148 21 rfl rfl)
theorem dL_law_3719 : decode cL_law 3719 = .ok (.invokevirtual 216, 3) := dk_182 0 216 (dk_at dksL_law_149 0 rfl rfl)
theorem dL_law_3722 : decode cL_law 3722 = .ok (.iload 6, 2) := dk_21 6 (dk_at dksL_law_149 3 rfl rfl)
theorem dL_law_3724 : decode cL_law 3724 = .ok (.if_icmp .eq 5, 3) := dk_159 0 5 (dk_at dksL_law_149 5 rfl rfl)
theorem dL_law_3727 : decode cL_law 3727 = .ok (.iconst 0, 1) := dk_3 (dk_at dksL_law_149 8 rfl rfl)
theorem dL_law_3728 : decode cL_law 3728 = .ok (.ireturn, 1) := dk_172 (dk_at dksL_law_149 9 rfl rfl)
theorem dL_law_3729 : decode cL_law 3729 = .ok (.iload 6, 2) := dk_21 6 (dk_at dksL_law_149 10 rfl rfl)
theorem dL_law_3731 : decode cL_law 3731 = .ok (.ifCond .ne 15, 3) := dk_154 0 15 (dk_at dksL_law_149 12 rfl rfl)
theorem dL_law_3734 : decode cL_law 3734 = .ok (.aload_n 3, 1) := dk_45 (dk_at dksL_law_149 15 rfl rfl)
theorem dL_law_3735 : decode cL_law 3735 = .ok (.iconst 0, 1) := dk_3 (dk_at dksL_law_149 16 rfl rfl)
theorem dL_law_3736 : decode cL_law 3736 = .ok (.laload, 1) := dk_47 (dk_at dksL_law_149 17 rfl rfl)
theorem dL_law_3737 : decode cL_law 3737 = .ok (.iload 7, 2) := dk_21 7 (dk_at dksL_law_149 18 rfl rfl)
theorem dL_law_3739 : decode cL_law 3739 = .ok (.i2l, 1) := dk_133 (dk_at dksL_law_149 20 rfl rfl)
theorem dL_law_3740 : decode cL_law 3740 = .ok (.lcmp, 1) := dk_148 (dk_at dksL_law_149 21 rfl rfl)
theorem dL_law_3741 : decode cL_law 3741 = .ok (.ifCond .eq 5, 3) := dk_153 0 5 (dk_at dksL_law_150 0 rfl rfl)
theorem dL_law_3744 : decode cL_law 3744 = .ok (.iconst 0, 1) := dk_3 (dk_at dksL_law_150 3 rfl rfl)
theorem dL_law_3745 : decode cL_law 3745 = .ok (.ireturn, 1) := dk_172 (dk_at dksL_law_150 4 rfl rfl)
theorem dL_law_3746 : decode cL_law 3746 = .ok (.goto 440, 3) := dk_167 1 184 (dk_at dksL_law_150 5 rfl rfl)
theorem dL_law_3749 : decode cL_law 3749 = .ok (.aload_n 1, 1) := dk_43 (dk_at dksL_law_150 8 rfl rfl)
theorem dL_law_3750 : decode cL_law 3750 = .ok (.aload_n 0, 1) := dk_42 (dk_at dksL_law_150 9 rfl rfl)
theorem dL_law_3751 : decode cL_law 3751 = .ok (.iload 5, 2) := dk_21 5 (dk_at dksL_law_150 10 rfl rfl)
theorem dL_law_3753 : decode cL_law 3753 = .ok (.iconst 1, 1) := dk_4 (dk_at dksL_law_150 12 rfl rfl)
theorem dL_law_3754 : decode cL_law 3754 = .ok (.iadd, 1) := dk_96 (dk_at dksL_law_150 13 rfl rfl)
theorem dL_law_3755 : decode cL_law 3755 = .ok (.iaload, 1) := dk_46 (dk_at dksL_law_150 14 rfl rfl)
theorem dL_law_3756 : decode cL_law 3756 = .ok (.aload_n 3, 1) := dk_45 (dk_at dksL_law_150 15 rfl rfl)
theorem dL_law_3757 : decode cL_law 3757 = .ok (.invokestatic 387, 3) := dk_184 1 131 (dk_at dksL_law_150 16 rfl rfl)
theorem dL_law_3760 : decode cL_law 3760 = .ok (.istore 6, 2) := dk_54 6 (dk_at dksL_law_150 19 rfl rfl)
theorem dL_law_3762 : decode cL_law 3762 = .ok (.aload_n 2, 1) := dk_44 (dk_at dksL_law_150 21 rfl rfl)
theorem dL_law_3763 : decode cL_law 3763 = .ok (.aload_n 0, 1) := dk_42 (dk_at dksL_law_150 22 rfl rfl)
theorem dL_law_3764 : decode cL_law 3764 = .ok (.iload 5, 2) := dk_21 5 (dk_at dksL_law_151 0 rfl rfl)
theorem dL_law_3766 : decode cL_law 3766 = .ok (.iconst 1, 1) := dk_4 (dk_at dksL_law_151 2 rfl rfl)
theorem dL_law_3767 : decode cL_law 3767 = .ok (.iadd, 1) := dk_96 (dk_at dksL_law_151 3 rfl rfl)
theorem dL_law_3768 : decode cL_law 3768 = .ok (.iaload, 1) := dk_46 (dk_at dksL_law_151 4 rfl rfl)
theorem dL_law_3769 : decode cL_law 3769 = .ok (.invokevirtual 389, 3) := dk_182 1 133 (dk_at dksL_law_151 5 rfl rfl)
theorem dL_law_3772 : decode cL_law 3772 = .ok (.istore 7, 2) := dk_54 7 (dk_at dksL_law_151 8 rfl rfl)
theorem dL_law_3774 : decode cL_law 3774 = .ok (.aload_n 2, 1) := dk_44 (dk_at dksL_law_151 10 rfl rfl)
theorem dL_law_3775 : decode cL_law 3775 = .ok (.invokevirtual 216, 3) := dk_182 0 216 (dk_at dksL_law_151 11 rfl rfl)
theorem dL_law_3778 : decode cL_law 3778 = .ok (.iload 6, 2) := dk_21 6 (dk_at dksL_law_151 14 rfl rfl)
theorem dL_law_3780 : decode cL_law 3780 = .ok (.if_icmp .eq 5, 3) := dk_159 0 5 (dk_at dksL_law_151 16 rfl rfl)
theorem dL_law_3783 : decode cL_law 3783 = .ok (.iconst 0, 1) := dk_3 (dk_at dksL_law_151 19 rfl rfl)
theorem dL_law_3784 : decode cL_law 3784 = .ok (.ireturn, 1) := dk_172 (dk_at dksL_law_151 20 rfl rfl)
theorem dL_law_3785 : decode cL_law 3785 = .ok (.iload 6, 2) := dk_21 6 (dk_at dksL_law_151 21 rfl rfl)
theorem dL_law_3787 : decode cL_law 3787 = .ok (.ifCond .ne 15, 3) := dk_154 0 15 (dk_at dksL_law_152 0 rfl rfl)
theorem dL_law_3790 : decode cL_law 3790 = .ok (.aload_n 3, 1) := dk_45 (dk_at dksL_law_152 3 rfl rfl)
theorem dL_law_3791 : decode cL_law 3791 = .ok (.iconst 0, 1) := dk_3 (dk_at dksL_law_152 4 rfl rfl)
theorem dL_law_3792 : decode cL_law 3792 = .ok (.laload, 1) := dk_47 (dk_at dksL_law_152 5 rfl rfl)
theorem dL_law_3793 : decode cL_law 3793 = .ok (.iload 7, 2) := dk_21 7 (dk_at dksL_law_152 6 rfl rfl)
theorem dL_law_3795 : decode cL_law 3795 = .ok (.i2l, 1) := dk_133 (dk_at dksL_law_152 8 rfl rfl)
theorem dL_law_3796 : decode cL_law 3796 = .ok (.lcmp, 1) := dk_148 (dk_at dksL_law_152 9 rfl rfl)
theorem dL_law_3797 : decode cL_law 3797 = .ok (.ifCond .eq 5, 3) := dk_153 0 5 (dk_at dksL_law_152 10 rfl rfl)
theorem dL_law_3800 : decode cL_law 3800 = .ok (.iconst 0, 1) := dk_3 (dk_at dksL_law_152 13 rfl rfl)
theorem dL_law_3801 : decode cL_law 3801 = .ok (.ireturn, 1) := dk_172 (dk_at dksL_law_152 14 rfl rfl)
theorem dL_law_3802 : decode cL_law 3802 = .ok (.goto 384, 3) := dk_167 1 128 (dk_at dksL_law_152 15 rfl rfl)
theorem dL_law_3805 : decode cL_law 3805 = .ok (.aload_n 1, 1) := dk_43 (dk_at dksL_law_152 18 rfl rfl)
theorem dL_law_3806 : decode cL_law 3806 = .ok (.aload_n 3, 1) := dk_45 (dk_at dksL_law_152 19 rfl rfl)
theorem dL_law_3807 : decode cL_law 3807 = .ok (.invokestatic 390, 3) := dk_184 1 134 (dk_at dksL_law_152 20 rfl rfl)
theorem dL_law_3810 : decode cL_law 3810 = .ok (.istore 6, 2) := dk_54 6 (dk_at dksL_law_153 0 rfl rfl)
theorem dL_law_3812 : decode cL_law 3812 = .ok (.aload_n 2, 1) := dk_44 (dk_at dksL_law_153 2 rfl rfl)
theorem dL_law_3813 : decode cL_law 3813 = .ok (.invokevirtual 392, 3) := dk_182 1 136 (dk_at dksL_law_153 3 rfl rfl)
theorem dL_law_3816 : decode cL_law 3816 = .ok (.istore 7, 2) := dk_54 7 (dk_at dksL_law_153 6 rfl rfl)
theorem dL_law_3818 : decode cL_law 3818 = .ok (.aload_n 2, 1) := dk_44 (dk_at dksL_law_153 8 rfl rfl)
theorem dL_law_3819 : decode cL_law 3819 = .ok (.invokevirtual 216, 3) := dk_182 0 216 (dk_at dksL_law_153 9 rfl rfl)
theorem dL_law_3822 : decode cL_law 3822 = .ok (.iload 6, 2) := dk_21 6 (dk_at dksL_law_153 12 rfl rfl)
theorem dL_law_3824 : decode cL_law 3824 = .ok (.if_icmp .eq 5, 3) := dk_159 0 5 (dk_at dksL_law_153 14 rfl rfl)
theorem dL_law_3827 : decode cL_law 3827 = .ok (.iconst 0, 1) := dk_3 (dk_at dksL_law_153 17 rfl rfl)
theorem dL_law_3828 : decode cL_law 3828 = .ok (.ireturn, 1) := dk_172 (dk_at dksL_law_153 18 rfl rfl)
theorem dL_law_3829 : decode cL_law 3829 = .ok (.iload 6, 2) := dk_21 6 (dk_at dksL_law_153 19 rfl rfl)
theorem dL_law_3831 : decode cL_law 3831 = .ok (.ifCond .ne 15, 3) := dk_154 0 15 (dk_at dksL_law_153 21 rfl rfl)
theorem dL_law_3834 : decode cL_law 3834 = .ok (.aload_n 3, 1) := dk_45 (dk_at dksL_law_154 0 rfl rfl)
theorem dL_law_3835 : decode cL_law 3835 = .ok (.iconst 0, 1) := dk_3 (dk_at dksL_law_154 1 rfl rfl)
theorem dL_law_3836 : decode cL_law 3836 = .ok (.laload, 1) := dk_47 (dk_at dksL_law_154 2 rfl rfl)
theorem dL_law_3837 : decode cL_law 3837 = .ok (.iload 7, 2) := dk_21 7 (dk_at dksL_law_154 3 rfl rfl)
theorem dL_law_3839 : decode cL_law 3839 = .ok (.i2l, 1) := dk_133 (dk_at dksL_law_154 5 rfl rfl)
theorem dL_law_3840 : decode cL_law 3840 = .ok (.lcmp, 1) := dk_148 (dk_at dksL_law_154 6 rfl rfl)
theorem dL_law_3841 : decode cL_law 3841 = .ok (.ifCond .eq 5, 3) := dk_153 0 5 (dk_at dksL_law_154 7 rfl rfl)
theorem dL_law_3844 : decode cL_law 3844 = .ok (.iconst 0, 1) := dk_3 (dk_at dksL_law_154 10 rfl rfl)
theorem dL_law_3845 : decode cL_law 3845 = .ok (.ireturn, 1) := dk_172 (dk_at dksL_law_154 11 rfl rfl)
theorem dL_law_3846 : decode cL_law 3846 = .ok (.goto 340, 3) := dk_167 1 84 (dk_at dksL_law_154 12 rfl rfl)
theorem dL_law_3849 : decode cL_law 3849 = .ok (.aload_n 1, 1) := dk_43 (dk_at dksL_law_154 15 rfl rfl)
theorem dL_law_3850 : decode cL_law 3850 = .ok (.aload_n 0, 1) := dk_42 (dk_at dksL_law_154 16 rfl rfl)
theorem dL_law_3851 : decode cL_law 3851 = .ok (.iload 5, 2) := dk_21 5 (dk_at dksL_law_154 17 rfl rfl)
theorem dL_law_3853 : decode cL_law 3853 = .ok (.iconst 1, 1) := dk_4 (dk_at dksL_law_154 19 rfl rfl)
theorem dL_law_3854 : decode cL_law 3854 = .ok (.iadd, 1) := dk_96 (dk_at dksL_law_154 20 rfl rfl)
theorem dL_law_3855 : decode cL_law 3855 = .ok (.iaload, 1) := dk_46 (dk_at dksL_law_154 21 rfl rfl)
theorem dL_law_3856 : decode cL_law 3856 = .ok (.aload_n 3, 1) := dk_45 (dk_at dksL_law_154 22 rfl rfl)
theorem dL_law_3857 : decode cL_law 3857 = .ok (.invokestatic 393, 3) := dk_184 1 137 (dk_at dksL_law_155 0 rfl rfl)
theorem dL_law_3860 : decode cL_law 3860 = .ok (.istore 6, 2) := dk_54 6 (dk_at dksL_law_155 3 rfl rfl)
theorem dL_law_3862 : decode cL_law 3862 = .ok (.aload_n 2, 1) := dk_44 (dk_at dksL_law_155 5 rfl rfl)
theorem dL_law_3863 : decode cL_law 3863 = .ok (.aload_n 0, 1) := dk_42 (dk_at dksL_law_155 6 rfl rfl)
theorem dL_law_3864 : decode cL_law 3864 = .ok (.iload 5, 2) := dk_21 5 (dk_at dksL_law_155 7 rfl rfl)
theorem dL_law_3866 : decode cL_law 3866 = .ok (.iconst 1, 1) := dk_4 (dk_at dksL_law_155 9 rfl rfl)
theorem dL_law_3867 : decode cL_law 3867 = .ok (.iadd, 1) := dk_96 (dk_at dksL_law_155 10 rfl rfl)
theorem dL_law_3868 : decode cL_law 3868 = .ok (.iaload, 1) := dk_46 (dk_at dksL_law_155 11 rfl rfl)
theorem dL_law_3869 : decode cL_law 3869 = .ok (.invokevirtual 395, 3) := dk_182 1 139 (dk_at dksL_law_155 12 rfl rfl)
theorem dL_law_3872 : decode cL_law 3872 = .ok (.istore 7, 2) := dk_54 7 (dk_at dksL_law_155 15 rfl rfl)
theorem dL_law_3874 : decode cL_law 3874 = .ok (.aload_n 2, 1) := dk_44 (dk_at dksL_law_155 17 rfl rfl)
theorem dL_law_3875 : decode cL_law 3875 = .ok (.invokevirtual 216, 3) := dk_182 0 216 (dk_at dksL_law_155 18 rfl rfl)
theorem dL_law_3878 : decode cL_law 3878 = .ok (.iload 6, 2) := dk_21 6 (dk_at dksL_law_155 21 rfl rfl)
theorem dL_law_3880 : decode cL_law 3880 = .ok (.if_icmp .eq 5, 3) := dk_159 0 5 (dk_at dksL_law_156 0 rfl rfl)
theorem dL_law_3883 : decode cL_law 3883 = .ok (.iconst 0, 1) := dk_3 (dk_at dksL_law_156 3 rfl rfl)
theorem dL_law_3884 : decode cL_law 3884 = .ok (.ireturn, 1) := dk_172 (dk_at dksL_law_156 4 rfl rfl)
theorem dL_law_3885 : decode cL_law 3885 = .ok (.iload 6, 2) := dk_21 6 (dk_at dksL_law_156 5 rfl rfl)
theorem dL_law_3887 : decode cL_law 3887 = .ok (.ifCond .ne 15, 3) := dk_154 0 15 (dk_at dksL_law_156 7 rfl rfl)
theorem dL_law_3890 : decode cL_law 3890 = .ok (.aload_n 3, 1) := dk_45 (dk_at dksL_law_156 10 rfl rfl)
theorem dL_law_3891 : decode cL_law 3891 = .ok (.iconst 0, 1) := dk_3 (dk_at dksL_law_156 11 rfl rfl)
theorem dL_law_3892 : decode cL_law 3892 = .ok (.laload, 1) := dk_47 (dk_at dksL_law_156 12 rfl rfl)
theorem dL_law_3893 : decode cL_law 3893 = .ok (.iload 7, 2) := dk_21 7 (dk_at dksL_law_156 13 rfl rfl)
theorem dL_law_3895 : decode cL_law 3895 = .ok (.i2l, 1) := dk_133 (dk_at dksL_law_156 15 rfl rfl)
theorem dL_law_3896 : decode cL_law 3896 = .ok (.lcmp, 1) := dk_148 (dk_at dksL_law_156 16 rfl rfl)
theorem dL_law_3897 : decode cL_law 3897 = .ok (.ifCond .eq 5, 3) := dk_153 0 5 (dk_at dksL_law_156 17 rfl rfl)
theorem dL_law_3900 : decode cL_law 3900 = .ok (.iconst 0, 1) := dk_3 (dk_at dksL_law_156 20 rfl rfl)
theorem dL_law_3901 : decode cL_law 3901 = .ok (.ireturn, 1) := dk_172 (dk_at dksL_law_156 21 rfl rfl)
theorem dL_law_3902 : decode cL_law 3902 = .ok (.goto 284, 3) := dk_167 1 28 (dk_at dksL_law_157 0 rfl rfl)
theorem dL_law_3905 : decode cL_law 3905 = .ok (.aload_n 1, 1) := dk_43 (dk_at dksL_law_157 3 rfl rfl)
theorem dL_law_3906 : decode cL_law 3906 = .ok (.aload_n 0, 1) := dk_42 (dk_at dksL_law_157 4 rfl rfl)
theorem dL_law_3907 : decode cL_law 3907 = .ok (.iload 5, 2) := dk_21 5 (dk_at dksL_law_157 5 rfl rfl)
theorem dL_law_3909 : decode cL_law 3909 = .ok (.iconst 1, 1) := dk_4 (dk_at dksL_law_157 7 rfl rfl)
theorem dL_law_3910 : decode cL_law 3910 = .ok (.iadd, 1) := dk_96 (dk_at dksL_law_157 8 rfl rfl)
theorem dL_law_3911 : decode cL_law 3911 = .ok (.iaload, 1) := dk_46 (dk_at dksL_law_157 9 rfl rfl)
theorem dL_law_3912 : decode cL_law 3912 = .ok (.aload_n 3, 1) := dk_45 (dk_at dksL_law_157 10 rfl rfl)
theorem dL_law_3913 : decode cL_law 3913 = .ok (.invokestatic 396, 3) := dk_184 1 140 (dk_at dksL_law_157 11 rfl rfl)
theorem dL_law_3916 : decode cL_law 3916 = .ok (.istore 6, 2) := dk_54 6 (dk_at dksL_law_157 14 rfl rfl)
theorem dL_law_3918 : decode cL_law 3918 = .ok (.aload_n 2, 1) := dk_44 (dk_at dksL_law_157 16 rfl rfl)
theorem dL_law_3919 : decode cL_law 3919 = .ok (.aload_n 0, 1) := dk_42 (dk_at dksL_law_157 17 rfl rfl)
theorem dL_law_3920 : decode cL_law 3920 = .ok (.iload 5, 2) := dk_21 5 (dk_at dksL_law_157 18 rfl rfl)
theorem dL_law_3922 : decode cL_law 3922 = .ok (.iconst 1, 1) := dk_4 (dk_at dksL_law_157 20 rfl rfl)
theorem dL_law_3923 : decode cL_law 3923 = .ok (.iadd, 1) := dk_96 (dk_at dksL_law_157 21 rfl rfl)
theorem dL_law_3924 : decode cL_law 3924 = .ok (.iaload, 1) := dk_46 (dk_at dksL_law_157 22 rfl rfl)
theorem dL_law_3925 : decode cL_law 3925 = .ok (.invokevirtual 398, 3) := dk_182 1 142 (dk_at dksL_law_158 0 rfl rfl)
theorem dL_law_3928 : decode cL_law 3928 = .ok (.istore 7, 2) := dk_54 7 (dk_at dksL_law_158 3 rfl rfl)
theorem dL_law_3930 : decode cL_law 3930 = .ok (.aload_n 2, 1) := dk_44 (dk_at dksL_law_158 5 rfl rfl)
theorem dL_law_3931 : decode cL_law 3931 = .ok (.invokevirtual 216, 3) := dk_182 0 216 (dk_at dksL_law_158 6 rfl rfl)
theorem dL_law_3934 : decode cL_law 3934 = .ok (.iload 6, 2) := dk_21 6 (dk_at dksL_law_158 9 rfl rfl)
theorem dL_law_3936 : decode cL_law 3936 = .ok (.if_icmp .eq 5, 3) := dk_159 0 5 (dk_at dksL_law_158 11 rfl rfl)
theorem dL_law_3939 : decode cL_law 3939 = .ok (.iconst 0, 1) := dk_3 (dk_at dksL_law_158 14 rfl rfl)
theorem dL_law_3940 : decode cL_law 3940 = .ok (.ireturn, 1) := dk_172 (dk_at dksL_law_158 15 rfl rfl)
theorem dL_law_3941 : decode cL_law 3941 = .ok (.iload 6, 2) := dk_21 6 (dk_at dksL_law_158 16 rfl rfl)
theorem dL_law_3943 : decode cL_law 3943 = .ok (.ifCond .ne 15, 3) := dk_154 0 15 (dk_at dksL_law_158 18 rfl rfl)
theorem dL_law_3946 : decode cL_law 3946 = .ok (.aload_n 3, 1) := dk_45 (dk_at dksL_law_158 21 rfl rfl)
theorem dL_law_3947 : decode cL_law 3947 = .ok (.iconst 0, 1) := dk_3 (dk_at dksL_law_158 22 rfl rfl)
theorem dL_law_3948 : decode cL_law 3948 = .ok (.laload, 1) := dk_47 (dk_at dksL_law_158 23 rfl rfl)
theorem dL_law_3949 : decode cL_law 3949 = .ok (.iload 7, 2) := dk_21 7 (dk_at dksL_law_159 0 rfl rfl)
theorem dL_law_3951 : decode cL_law 3951 = .ok (.i2l, 1) := dk_133 (dk_at dksL_law_159 2 rfl rfl)
theorem dL_law_3952 : decode cL_law 3952 = .ok (.lcmp, 1) := dk_148 (dk_at dksL_law_159 3 rfl rfl)
theorem dL_law_3953 : decode cL_law 3953 = .ok (.ifCond .eq 5, 3) := dk_153 0 5 (dk_at dksL_law_159 4 rfl rfl)
theorem dL_law_3956 : decode cL_law 3956 = .ok (.iconst 0, 1) := dk_3 (dk_at dksL_law_159 7 rfl rfl)
theorem dL_law_3957 : decode cL_law 3957 = .ok (.ireturn, 1) := dk_172 (dk_at dksL_law_159 8 rfl rfl)
theorem dL_law_3958 : decode cL_law 3958 = .ok (.goto 228, 3) := dk_167 0 228 (dk_at dksL_law_159 9 rfl rfl)
theorem dL_law_3961 : decode cL_law 3961 = .ok (.aload_n 1, 1) := dk_43 (dk_at dksL_law_159 12 rfl rfl)
theorem dL_law_3962 : decode cL_law 3962 = .ok (.aload_n 0, 1) := dk_42 (dk_at dksL_law_159 13 rfl rfl)
theorem dL_law_3963 : decode cL_law 3963 = .ok (.iload 5, 2) := dk_21 5 (dk_at dksL_law_159 14 rfl rfl)
theorem dL_law_3965 : decode cL_law 3965 = .ok (.iconst 1, 1) := dk_4 (dk_at dksL_law_159 16 rfl rfl)
theorem dL_law_3966 : decode cL_law 3966 = .ok (.iadd, 1) := dk_96 (dk_at dksL_law_159 17 rfl rfl)
theorem dL_law_3967 : decode cL_law 3967 = .ok (.iaload, 1) := dk_46 (dk_at dksL_law_159 18 rfl rfl)
theorem dL_law_3968 : decode cL_law 3968 = .ok (.aload_n 3, 1) := dk_45 (dk_at dksL_law_159 19 rfl rfl)
theorem dL_law_3969 : decode cL_law 3969 = .ok (.invokestatic 399, 3) := dk_184 1 143 (dk_at dksL_law_159 20 rfl rfl)
theorem dL_law_3972 : decode cL_law 3972 = .ok (.istore 6, 2) := dk_54 6 (dk_at dksL_law_160 0 rfl rfl)
theorem dL_law_3974 : decode cL_law 3974 = .ok (.aload_n 2, 1) := dk_44 (dk_at dksL_law_160 2 rfl rfl)
theorem dL_law_3975 : decode cL_law 3975 = .ok (.aload_n 0, 1) := dk_42 (dk_at dksL_law_160 3 rfl rfl)
theorem dL_law_3976 : decode cL_law 3976 = .ok (.iload 5, 2) := dk_21 5 (dk_at dksL_law_160 4 rfl rfl)
theorem dL_law_3978 : decode cL_law 3978 = .ok (.iconst 1, 1) := dk_4 (dk_at dksL_law_160 6 rfl rfl)
theorem dL_law_3979 : decode cL_law 3979 = .ok (.iadd, 1) := dk_96 (dk_at dksL_law_160 7 rfl rfl)
theorem dL_law_3980 : decode cL_law 3980 = .ok (.iaload, 1) := dk_46 (dk_at dksL_law_160 8 rfl rfl)
theorem dL_law_3981 : decode cL_law 3981 = .ok (.invokevirtual 401, 3) := dk_182 1 145 (dk_at dksL_law_160 9 rfl rfl)
theorem dL_law_3984 : decode cL_law 3984 = .ok (.istore 7, 2) := dk_54 7 (dk_at dksL_law_160 12 rfl rfl)
theorem dL_law_3986 : decode cL_law 3986 = .ok (.aload_n 2, 1) := dk_44 (dk_at dksL_law_160 14 rfl rfl)
theorem dL_law_3987 : decode cL_law 3987 = .ok (.invokevirtual 216, 3) := dk_182 0 216 (dk_at dksL_law_160 15 rfl rfl)
theorem dL_law_3990 : decode cL_law 3990 = .ok (.iload 6, 2) := dk_21 6 (dk_at dksL_law_160 18 rfl rfl)
theorem dL_law_3992 : decode cL_law 3992 = .ok (.if_icmp .eq 5, 3) := dk_159 0 5 (dk_at dksL_law_160 20 rfl rfl)
theorem dL_law_3995 : decode cL_law 3995 = .ok (.iconst 0, 1) := dk_3 (dk_at dksL_law_160 23 rfl rfl)
theorem dL_law_3996 : decode cL_law 3996 = .ok (.ireturn, 1) := dk_172 (dk_at dksL_law_161 0 rfl rfl)
theorem dL_law_3997 : decode cL_law 3997 = .ok (.iload 6, 2) := dk_21 6 (dk_at dksL_law_161 1 rfl rfl)
theorem dL_law_3999 : decode cL_law 3999 = .ok (.ifCond .ne 15, 3) := dk_154 0 15 (dk_at dksL_law_161 3 rfl rfl)
theorem dL_law_4002 : decode cL_law 4002 = .ok (.aload_n 3, 1) := dk_45 (dk_at dksL_law_161 6 rfl rfl)
theorem dL_law_4003 : decode cL_law 4003 = .ok (.iconst 0, 1) := dk_3 (dk_at dksL_law_161 7 rfl rfl)
theorem dL_law_4004 : decode cL_law 4004 = .ok (.laload, 1) := dk_47 (dk_at dksL_law_161 8 rfl rfl)
theorem dL_law_4005 : decode cL_law 4005 = .ok (.iload 7, 2) := dk_21 7 (dk_at dksL_law_161 9 rfl rfl)
theorem dL_law_4007 : decode cL_law 4007 = .ok (.i2l, 1) := dk_133 (dk_at dksL_law_161 11 rfl rfl)
theorem dL_law_4008 : decode cL_law 4008 = .ok (.lcmp, 1) := dk_148 (dk_at dksL_law_161 12 rfl rfl)
theorem dL_law_4009 : decode cL_law 4009 = .ok (.ifCond .eq 5, 3) := dk_153 0 5 (dk_at dksL_law_161 13 rfl rfl)
theorem dL_law_4012 : decode cL_law 4012 = .ok (.iconst 0, 1) := dk_3 (dk_at dksL_law_161 16 rfl rfl)
theorem dL_law_4013 : decode cL_law 4013 = .ok (.ireturn, 1) := dk_172 (dk_at dksL_law_161 17 rfl rfl)
theorem dL_law_4014 : decode cL_law 4014 = .ok (.goto 172, 3) := dk_167 0 172 (dk_at dksL_law_161 18 rfl rfl)
theorem dL_law_4017 : decode cL_law 4017 = .ok (.aload_n 1, 1) := dk_43 (dk_at dksL_law_161 21 rfl rfl)
theorem dL_law_4018 : decode cL_law 4018 = .ok (.aload_n 3, 1) := dk_45 (dk_at dksL_law_161 22 rfl rfl)
theorem dL_law_4019 : decode cL_law 4019 = .ok (.invokestatic 402, 3) := dk_184 1 146 (dk_at dksL_law_162 0 rfl rfl)
theorem dL_law_4022 : decode cL_law 4022 = .ok (.istore 6, 2) := dk_54 6 (dk_at dksL_law_162 3 rfl rfl)
theorem dL_law_4024 : decode cL_law 4024 = .ok (.aload_n 2, 1) := dk_44 (dk_at dksL_law_162 5 rfl rfl)
theorem dL_law_4025 : decode cL_law 4025 = .ok (.invokevirtual 404, 3) := dk_182 1 148 (dk_at dksL_law_162 6 rfl rfl)
theorem dL_law_4028 : decode cL_law 4028 = .ok (.istore 7, 2) := dk_54 7 (dk_at dksL_law_162 9 rfl rfl)
theorem dL_law_4030 : decode cL_law 4030 = .ok (.aload_n 2, 1) := dk_44 (dk_at dksL_law_162 11 rfl rfl)
theorem dL_law_4031 : decode cL_law 4031 = .ok (.invokevirtual 216, 3) := dk_182 0 216 (dk_at dksL_law_162 12 rfl rfl)
theorem dL_law_4034 : decode cL_law 4034 = .ok (.iload 6, 2) := dk_21 6 (dk_at dksL_law_162 15 rfl rfl)
theorem dL_law_4036 : decode cL_law 4036 = .ok (.if_icmp .eq 5, 3) := dk_159 0 5 (dk_at dksL_law_162 17 rfl rfl)
theorem dL_law_4039 : decode cL_law 4039 = .ok (.iconst 0, 1) := dk_3 (dk_at dksL_law_162 20 rfl rfl)
theorem dL_law_4040 : decode cL_law 4040 = .ok (.ireturn, 1) := dk_172 (dk_at dksL_law_162 21 rfl rfl)
theorem dL_law_4041 : decode cL_law 4041 = .ok (.iload 6, 2) := dk_21 6 (dk_at dksL_law_162 22 rfl rfl)
theorem dL_law_4043 : decode cL_law 4043 = .ok (.ifCond .ne 15, 3) := dk_154 0 15 (dk_at dksL_law_163 0 rfl rfl)
theorem dL_law_4046 : decode cL_law 4046 = .ok (.aload_n 3, 1) := dk_45 (dk_at dksL_law_163 3 rfl rfl)
theorem dL_law_4047 : decode cL_law 4047 = .ok (.iconst 0, 1) := dk_3 (dk_at dksL_law_163 4 rfl rfl)
theorem dL_law_4048 : decode cL_law 4048 = .ok (.laload, 1) := dk_47 (dk_at dksL_law_163 5 rfl rfl)
theorem dL_law_4049 : decode cL_law 4049 = .ok (.iload 7, 2) := dk_21 7 (dk_at dksL_law_163 6 rfl rfl)
theorem dL_law_4051 : decode cL_law 4051 = .ok (.i2l, 1) := dk_133 (dk_at dksL_law_163 8 rfl rfl)
theorem dL_law_4052 : decode cL_law 4052 = .ok (.lcmp, 1) := dk_148 (dk_at dksL_law_163 9 rfl rfl)
theorem dL_law_4053 : decode cL_law 4053 = .ok (.ifCond .eq 5, 3) := dk_153 0 5 (dk_at dksL_law_163 10 rfl rfl)
theorem dL_law_4056 : decode cL_law 4056 = .ok (.iconst 0, 1) := dk_3 (dk_at dksL_law_163 13 rfl rfl)
theorem dL_law_4057 : decode cL_law 4057 = .ok (.ireturn, 1) := dk_172 (dk_at dksL_law_163 14 rfl rfl)
theorem dL_law_4058 : decode cL_law 4058 = .ok (.goto 128, 3) := dk_167 0 128 (dk_at dksL_law_163 15 rfl rfl)
theorem dL_law_4061 : decode cL_law 4061 = .ok (.aload_n 1, 1) := dk_43 (dk_at dksL_law_163 18 rfl rfl)
theorem dL_law_4062 : decode cL_law 4062 = .ok (.invokevirtual 405, 3) := dk_182 1 149 (dk_at dksL_law_163 19 rfl rfl)
theorem dL_law_4065 : decode cL_law 4065 = .ok (.aload_n 2, 1) := dk_44 (dk_at dksL_law_163 22 rfl rfl)
theorem dL_law_4066 : decode cL_law 4066 = .ok (.invokevirtual 408, 3) := dk_182 1 152 (dk_at dksL_law_164 0 rfl rfl)
theorem dL_law_4069 : decode cL_law 4069 = .ok (.if_icmp .eq 117, 3) := dk_159 0 117 (dk_at dksL_law_164 3 rfl rfl)
theorem dL_law_4072 : decode cL_law 4072 = .ok (.iconst 0, 1) := dk_3 (dk_at dksL_law_164 6 rfl rfl)
theorem dL_law_4073 : decode cL_law 4073 = .ok (.ireturn, 1) := dk_172 (dk_at dksL_law_164 7 rfl rfl)
theorem dL_law_4074 : decode cL_law 4074 = .ok (.aload_n 1, 1) := dk_43 (dk_at dksL_law_164 8 rfl rfl)
theorem dL_law_4075 : decode cL_law 4075 = .ok (.aload_n 0, 1) := dk_42 (dk_at dksL_law_164 9 rfl rfl)
theorem dL_law_4076 : decode cL_law 4076 = .ok (.iload 5, 2) := dk_21 5 (dk_at dksL_law_164 10 rfl rfl)
theorem dL_law_4078 : decode cL_law 4078 = .ok (.iconst 1, 1) := dk_4 (dk_at dksL_law_164 12 rfl rfl)
theorem dL_law_4079 : decode cL_law 4079 = .ok (.iadd, 1) := dk_96 (dk_at dksL_law_164 13 rfl rfl)
theorem dL_law_4080 : decode cL_law 4080 = .ok (.iaload, 1) := dk_46 (dk_at dksL_law_164 14 rfl rfl)
theorem dL_law_4081 : decode cL_law 4081 = .ok (.aload_n 3, 1) := dk_45 (dk_at dksL_law_164 15 rfl rfl)
theorem dL_law_4082 : decode cL_law 4082 = .ok (.invokestatic 409, 3) := dk_184 1 153 (dk_at dksL_law_164 16 rfl rfl)
theorem dL_law_4085 : decode cL_law 4085 = .ok (.istore 6, 2) := dk_54 6 (dk_at dksL_law_164 19 rfl rfl)
theorem dL_law_4087 : decode cL_law 4087 = .ok (.aload_n 2, 1) := dk_44 (dk_at dksL_law_164 21 rfl rfl)
theorem dL_law_4088 : decode cL_law 4088 = .ok (.aload_n 0, 1) := dk_42 (dk_at dksL_law_164 22 rfl rfl)
theorem dL_law_4089 : decode cL_law 4089 = .ok (.iload 5, 2) := dk_21 5 (dk_at dksL_law_165 0 rfl rfl)
theorem dL_law_4091 : decode cL_law 4091 = .ok (.iconst 1, 1) := dk_4 (dk_at dksL_law_165 2 rfl rfl)
theorem dL_law_4092 : decode cL_law 4092 = .ok (.iadd, 1) := dk_96 (dk_at dksL_law_165 3 rfl rfl)
theorem dL_law_4093 : decode cL_law 4093 = .ok (.iaload, 1) := dk_46 (dk_at dksL_law_165 4 rfl rfl)
theorem dL_law_4094 : decode cL_law 4094 = .ok (.invokevirtual 411, 3) := dk_182 1 155 (dk_at dksL_law_165 5 rfl rfl)
theorem dL_law_4097 : decode cL_law 4097 = .ok (.istore 7, 2) := dk_54 7 (dk_at dksL_law_165 8 rfl rfl)
theorem dL_law_4099 : decode cL_law 4099 = .ok (.aload_n 2, 1) := dk_44 (dk_at dksL_law_165 10 rfl rfl)
theorem dL_law_4100 : decode cL_law 4100 = .ok (.invokevirtual 216, 3) := dk_182 0 216 (dk_at dksL_law_165 11 rfl rfl)
theorem dL_law_4103 : decode cL_law 4103 = .ok (.iload 6, 2) := dk_21 6 (dk_at dksL_law_165 14 rfl rfl)
theorem dL_law_4105 : decode cL_law 4105 = .ok (.if_icmp .eq 5, 3) := dk_159 0 5 (dk_at dksL_law_165 16 rfl rfl)
theorem dL_law_4108 : decode cL_law 4108 = .ok (.iconst 0, 1) := dk_3 (dk_at dksL_law_165 19 rfl rfl)
theorem dL_law_4109 : decode cL_law 4109 = .ok (.ireturn, 1) := dk_172 (dk_at dksL_law_165 20 rfl rfl)
theorem dL_law_4110 : decode cL_law 4110 = .ok (.iload 6, 2) := dk_21 6 (dk_at dksL_law_165 21 rfl rfl)
theorem dL_law_4112 : decode cL_law 4112 = .ok (.ifCond .ne 15, 3) := dk_154 0 15 (dk_at dksL_law_166 0 rfl rfl)
theorem dL_law_4115 : decode cL_law 4115 = .ok (.aload_n 3, 1) := dk_45 (dk_at dksL_law_166 3 rfl rfl)
theorem dL_law_4116 : decode cL_law 4116 = .ok (.iconst 0, 1) := dk_3 (dk_at dksL_law_166 4 rfl rfl)
theorem dL_law_4117 : decode cL_law 4117 = .ok (.laload, 1) := dk_47 (dk_at dksL_law_166 5 rfl rfl)
theorem dL_law_4118 : decode cL_law 4118 = .ok (.iload 7, 2) := dk_21 7 (dk_at dksL_law_166 6 rfl rfl)
theorem dL_law_4120 : decode cL_law 4120 = .ok (.i2l, 1) := dk_133 (dk_at dksL_law_166 8 rfl rfl)
theorem dL_law_4121 : decode cL_law 4121 = .ok (.lcmp, 1) := dk_148 (dk_at dksL_law_166 9 rfl rfl)
theorem dL_law_4122 : decode cL_law 4122 = .ok (.ifCond .eq 5, 3) := dk_153 0 5 (dk_at dksL_law_166 10 rfl rfl)
theorem dL_law_4125 : decode cL_law 4125 = .ok (.iconst 0, 1) := dk_3 (dk_at dksL_law_166 13 rfl rfl)
theorem dL_law_4126 : decode cL_law 4126 = .ok (.ireturn, 1) := dk_172 (dk_at dksL_law_166 14 rfl rfl)
theorem dL_law_4127 : decode cL_law 4127 = .ok (.goto 59, 3) := dk_167 0 59 (dk_at dksL_law_166 15 rfl rfl)
theorem dL_law_4130 : decode cL_law 4130 = .ok (.aload_n 1, 1) := dk_43 (dk_at dksL_law_166 18 rfl rfl)
theorem dL_law_4131 : decode cL_law 4131 = .ok (.aload_n 0, 1) := dk_42 (dk_at dksL_law_166 19 rfl rfl)
theorem dL_law_4132 : decode cL_law 4132 = .ok (.iload 5, 2) := dk_21 5 (dk_at dksL_law_166 20 rfl rfl)
theorem dL_law_4134 : decode cL_law 4134 = .ok (.iconst 1, 1) := dk_4 (dk_at dksL_law_166 22 rfl rfl)
theorem dL_law_4135 : decode cL_law 4135 = .ok (.iadd, 1) := dk_96 (dk_at dksL_law_166 23 rfl rfl)
theorem dL_law_4136 : decode cL_law 4136 = .ok (.iaload, 1) := dk_46 (dk_at dksL_law_167 0 rfl rfl)
theorem dL_law_4137 : decode cL_law 4137 = .ok (.aload_n 3, 1) := dk_45 (dk_at dksL_law_167 1 rfl rfl)
theorem dL_law_4138 : decode cL_law 4138 = .ok (.invokestatic 412, 3) := dk_184 1 156 (dk_at dksL_law_167 2 rfl rfl)
theorem dL_law_4141 : decode cL_law 4141 = .ok (.istore 6, 2) := dk_54 6 (dk_at dksL_law_167 5 rfl rfl)
theorem dL_law_4143 : decode cL_law 4143 = .ok (.aload_n 2, 1) := dk_44 (dk_at dksL_law_167 7 rfl rfl)
theorem dL_law_4144 : decode cL_law 4144 = .ok (.aload_n 0, 1) := dk_42 (dk_at dksL_law_167 8 rfl rfl)
theorem dL_law_4145 : decode cL_law 4145 = .ok (.iload 5, 2) := dk_21 5 (dk_at dksL_law_167 9 rfl rfl)
theorem dL_law_4147 : decode cL_law 4147 = .ok (.iconst 1, 1) := dk_4 (dk_at dksL_law_167 11 rfl rfl)
theorem dL_law_4148 : decode cL_law 4148 = .ok (.iadd, 1) := dk_96 (dk_at dksL_law_167 12 rfl rfl)
theorem dL_law_4149 : decode cL_law 4149 = .ok (.iaload, 1) := dk_46 (dk_at dksL_law_167 13 rfl rfl)
theorem dL_law_4150 : decode cL_law 4150 = .ok (.invokevirtual 414, 3) := dk_182 1 158 (dk_at dksL_law_167 14 rfl rfl)
theorem dL_law_4153 : decode cL_law 4153 = .ok (.istore 7, 2) := dk_54 7 (dk_at dksL_law_167 17 rfl rfl)
theorem dL_law_4155 : decode cL_law 4155 = .ok (.aload_n 2, 1) := dk_44 (dk_at dksL_law_167 19 rfl rfl)
theorem dL_law_4156 : decode cL_law 4156 = .ok (.invokevirtual 216, 3) := dk_182 0 216 (dk_at dksL_law_167 20 rfl rfl)
theorem dL_law_4159 : decode cL_law 4159 = .ok (.iload 6, 2) := dk_21 6 (dk_at dksL_law_168 0 rfl rfl)
theorem dL_law_4161 : decode cL_law 4161 = .ok (.if_icmp .eq 5, 3) := dk_159 0 5 (dk_at dksL_law_168 2 rfl rfl)
theorem dL_law_4164 : decode cL_law 4164 = .ok (.iconst 0, 1) := dk_3 (dk_at dksL_law_168 5 rfl rfl)
theorem dL_law_4165 : decode cL_law 4165 = .ok (.ireturn, 1) := dk_172 (dk_at dksL_law_168 6 rfl rfl)
theorem dL_law_4166 : decode cL_law 4166 = .ok (.iload 6, 2) := dk_21 6 (dk_at dksL_law_168 7 rfl rfl)
theorem dL_law_4168 : decode cL_law 4168 = .ok (.ifCond .ne 15, 3) := dk_154 0 15 (dk_at dksL_law_168 9 rfl rfl)
theorem dL_law_4171 : decode cL_law 4171 = .ok (.aload_n 3, 1) := dk_45 (dk_at dksL_law_168 12 rfl rfl)
theorem dL_law_4172 : decode cL_law 4172 = .ok (.iconst 0, 1) := dk_3 (dk_at dksL_law_168 13 rfl rfl)
theorem dL_law_4173 : decode cL_law 4173 = .ok (.laload, 1) := dk_47 (dk_at dksL_law_168 14 rfl rfl)
theorem dL_law_4174 : decode cL_law 4174 = .ok (.iload 7, 2) := dk_21 7 (dk_at dksL_law_168 15 rfl rfl)
theorem dL_law_4176 : decode cL_law 4176 = .ok (.i2l, 1) := dk_133 (dk_at dksL_law_168 17 rfl rfl)
theorem dL_law_4177 : decode cL_law 4177 = .ok (.lcmp, 1) := dk_148 (dk_at dksL_law_168 18 rfl rfl)
theorem dL_law_4178 : decode cL_law 4178 = .ok (.ifCond .eq 5, 3) := dk_153 0 5 (dk_at dksL_law_168 19 rfl rfl)
theorem dL_law_4181 : decode cL_law 4181 = .ok (.iconst 0, 1) := dk_3 (dk_at dksL_law_168 22 rfl rfl)
theorem dL_law_4182 : decode cL_law 4182 = .ok (.ireturn, 1) := dk_172 (dk_at dksL_law_168 23 rfl rfl)
theorem dL_law_4183 : decode cL_law 4183 = .ok (.goto 3, 3) := dk_167 0 3 (dk_at dksL_law_169 0 rfl rfl)
theorem dL_law_4186 : decode cL_law 4186 = .ok (.iinc 5 6, 3) := dk_132 5 6 (dk_at dksL_law_169 3 rfl rfl)
theorem dL_law_4189 : decode cL_law 4189 = .ok (.goto (-4161), 3) := dk_167 239 191 (dk_at dksL_law_169 6 rfl rfl)
theorem dL_law_4192 : decode cL_law 4192 = .ok (.iconst 1, 1) := dk_4 (dk_at dksL_law_169 9 rfl rfl)
theorem dL_law_4193 : decode cL_law 4193 = .ok (.ireturn, 1) := dk_172 (dk_at dksL_law_169 10 rfl rfl)
theorem q148 : (Jvm.Cond.initialized "VotingHuts$Sort") ∈ lw_all := lw_g (lw_at lw_m1 16 rfl) rfl
set_option maxRecDepth 100000
theorem q409 : (Jvm.Cond.laysStatic "VotingHuts$Sort" "END" "LVotingHuts$Sort;") ∈ lw_tbl := lw_at lw_m2 37 rfl
theorem q427 : (Jvm.Cond.laysStatic "VotingHuts$Sort" "WORD" "LVotingHuts$Sort;") ∈ lw_tbl := lw_at lw_m2 55 rfl
theorem q429 : (Jvm.Cond.laysStatic "VotingHuts$Sort" "BAD" "LVotingHuts$Sort;") ∈ lw_tbl := lw_at lw_m2 57 rfl
theorem q678 : (Jvm.Cond.laysStatic "VotingHuts$Sort" "DIGITS" "LVotingHuts$Sort;") ∈ lw_tbl := lw_at lw_m3 66 rfl
theorem q680 : (Jvm.Cond.laysStatic "VotingHuts$Sort" "SEMICOLON" "LVotingHuts$Sort;") ∈ lw_tbl := lw_at lw_m3 68 rfl
theorem q1080 : (Jvm.Cond.selects "VotingHuts$Sort" ({ cls := "java/lang/Object", name := "getClass", desc := "()Ljava/lang/Class;" } : Jvm.MethodName) ({ cls := "java/lang/Object", name := "getClass", desc := "()Ljava/lang/Class;" } : Jvm.MethodName)) ∈ lw_all := lw_g (lw_at lw_m4 228 rfl) rfl
theorem q2928 : (Jvm.Cond.castable "VotingHuts$Sort" "java/lang/Object") ∈ lw_tbl := lw_at lw_m12 156 rfl
theorem q1202 : (Jvm.Cond.interfaceMethod "VotingHuts$Told" "VotingHuts$Told" "isOf" "(I)Z") ∈ lw_tbl := lw_at lw_m5 110 rfl
set_option maxRecDepth 100000
theorem q1203 : (Jvm.Cond.declares ({ cls := "VotingHuts$Told", name := "isOf", desc := "(I)Z" } : Jvm.MethodName)) ∈ lw_tbl := lw_at lw_m5 111 rfl
theorem q1212 : (Jvm.Cond.interfaceMethod "VotingHuts$Told" "VotingHuts$Told" "behind" "(I)Ljava/lang/Object;") ∈ lw_tbl := lw_at lw_m5 120 rfl
theorem q1213 : (Jvm.Cond.declares ({ cls := "VotingHuts$Told", name := "behind", desc := "(I)Ljava/lang/Object;" } : Jvm.MethodName)) ∈ lw_tbl := lw_at lw_m5 121 rfl
theorem q462 : (Jvm.Cond.sameMethod "[B" "java/lang/Object" "clone" "()Ljava/lang/Object;") ∈ lw_all := lw_g (lw_at lw_m2 90 rfl) rfl
set_option maxRecDepth 100000
theorem q465 : (Jvm.Cond.selects "[B" ({ cls := "[B", name := "clone", desc := "()Ljava/lang/Object;" } : Jvm.MethodName) ({ cls := "java/lang/Object", name := "clone", desc := "()Ljava/lang/Object;" } : Jvm.MethodName)) ∈ lw_all := lw_g (lw_at lw_m2 93 rfl) rfl
theorem q466 : (Jvm.Cond.castable "[B" "java/lang/Cloneable") ∈ lw_tbl := lw_at lw_m2 94 rfl
theorem q2946 : (Jvm.Cond.castable "[B" "java/lang/Object") ∈ lw_tbl := lw_at lw_m12 174 rfl
theorem q2952 : (Jvm.Cond.castable "[D" "java/lang/Object") ∈ lw_tbl := lw_at lw_m12 180 rfl
set_option maxRecDepth 100000
theorem q2948 : (Jvm.Cond.castable "[I" "java/lang/Object") ∈ lw_tbl := lw_at lw_m12 176 rfl
set_option maxRecDepth 100000
theorem q2951 : (Jvm.Cond.castable "[J" "java/lang/Object") ∈ lw_tbl := lw_at lw_m12 179 rfl
set_option maxRecDepth 100000
theorem q2947 : (Jvm.Cond.castable "[LVotingHuts$World;" "java/lang/Object") ∈ lw_tbl := lw_at lw_m12 175 rfl
set_option maxRecDepth 100000
theorem q2942 : (Jvm.Cond.sameMethod "[Ljava/lang/Object;" "java/lang/Object" "getClass" "()Ljava/lang/Class;") ∈ lw_all := lw_g (lw_at lw_m12 170 rfl) rfl
set_option maxRecDepth 100000
theorem q2943 : (Jvm.Cond.selects "[Ljava/lang/Object;" ({ cls := "java/lang/Object", name := "getClass", desc := "()Ljava/lang/Class;" } : Jvm.MethodName) ({ cls := "java/lang/Object", name := "getClass", desc := "()Ljava/lang/Class;" } : Jvm.MethodName)) ∈ lw_all := lw_g (lw_at lw_m12 171 rfl) rfl
theorem q2945 : (Jvm.Cond.castable "[Ljava/lang/Object;" "java/lang/Object") ∈ lw_tbl := lw_at lw_m12 173 rfl
theorem q2949 : (Jvm.Cond.castable "[Z" "java/lang/Object") ∈ lw_tbl := lw_at lw_m12 177 rfl
set_option maxRecDepth 100000
theorem q2950 : (Jvm.Cond.castable "[[I" "java/lang/Object") ∈ lw_tbl := lw_at lw_m12 178 rfl
set_option maxRecDepth 100000
theorem q147 : (Jvm.Cond.initialized "java/lang/Enum") ∈ lw_all := lw_g (lw_at lw_m1 15 rfl) rfl
set_option maxRecDepth 100000
theorem q156 : (Jvm.Cond.initialized "java/lang/Number") ∈ lw_all := lw_g (lw_at lw_m1 24 rfl) rfl
set_option maxRecDepth 100000
theorem q152 : (Jvm.Cond.initialized "java/lang/System") ∈ lw_all := lw_g (lw_at lw_m1 20 rfl) rfl
set_option maxRecDepth 100000
theorem q472 : (Jvm.Cond.static ({ cls := "java/lang/System", name := "arraycopy", desc := "(Ljava/lang/Object;ILjava/lang/Object;II)V" } : Jvm.MethodName)) ∈ lw_all := lw_g (lw_at lw_m2 100 rfl) rfl
theorem q473 : (Jvm.Cond.native ({ cls := "java/lang/System", name := "arraycopy", desc := "(Ljava/lang/Object;ILjava/lang/Object;II)V" } : Jvm.MethodName)) ∈ lw_all := lw_g (lw_at lw_m2 101 rfl) rfl
theorem q1687 : (Jvm.Cond.interfaceMethod "java/util/Iterator" "java/util/Iterator" "hasNext" "()Z") ∈ lw_tbl := lw_at lw_m7 115 rfl
set_option maxRecDepth 100000
theorem q1688 : (Jvm.Cond.declares ({ cls := "java/util/Iterator", name := "hasNext", desc := "()Z" } : Jvm.MethodName)) ∈ lw_tbl := lw_at lw_m7 116 rfl
theorem q1697 : (Jvm.Cond.interfaceMethod "java/util/Iterator" "java/util/Iterator" "next" "()Ljava/lang/Object;") ∈ lw_tbl := lw_at lw_m7 125 rfl
theorem q1698 : (Jvm.Cond.declares ({ cls := "java/util/Iterator", name := "next", desc := "()Ljava/lang/Object;" } : Jvm.MethodName)) ∈ lw_tbl := lw_at lw_m7 126 rfl
theorem q988 : (Jvm.Cond.interfaceMethod "java/util/List" "java/util/List" "size" "()I") ∈ lw_tbl := lw_at lw_m4 136 rfl
set_option maxRecDepth 100000
theorem q989 : (Jvm.Cond.declares ({ cls := "java/util/List", name := "size", desc := "()I" } : Jvm.MethodName)) ∈ lw_tbl := lw_at lw_m4 137 rfl
theorem q1048 : (Jvm.Cond.interfaceMethod "java/util/List" "java/util/List" "add" "(Ljava/lang/Object;)Z") ∈ lw_tbl := lw_at lw_m4 196 rfl
theorem q1049 : (Jvm.Cond.declares ({ cls := "java/util/List", name := "add", desc := "(Ljava/lang/Object;)Z" } : Jvm.MethodName)) ∈ lw_tbl := lw_at lw_m4 197 rfl
theorem q1116 : (Jvm.Cond.interfaceMethod "java/util/List" "java/util/List" "get" "(I)Ljava/lang/Object;") ∈ lw_tbl := lw_at lw_m5 24 rfl
theorem q1117 : (Jvm.Cond.declares ({ cls := "java/util/List", name := "get", desc := "(I)Ljava/lang/Object;" } : Jvm.MethodName)) ∈ lw_tbl := lw_at lw_m5 25 rfl
theorem q1159 : (Jvm.Cond.interfaceMethod "java/util/List" "java/util/List" "remove" "(I)Ljava/lang/Object;") ∈ lw_tbl := lw_at lw_m5 67 rfl
theorem q1160 : (Jvm.Cond.declares ({ cls := "java/util/List", name := "remove", desc := "(I)Ljava/lang/Object;" } : Jvm.MethodName)) ∈ lw_tbl := lw_at lw_m5 68 rfl
theorem q1227 : (Jvm.Cond.interfaceMethod "java/util/List" "java/util/List" "add" "(ILjava/lang/Object;)V") ∈ lw_tbl := lw_at lw_m5 135 rfl
theorem q1228 : (Jvm.Cond.declares ({ cls := "java/util/List", name := "add", desc := "(ILjava/lang/Object;)V" } : Jvm.MethodName)) ∈ lw_tbl := lw_at lw_m5 136 rfl
theorem q1659 : (Jvm.Cond.interfaceMethod "java/util/List" "java/util/List" "iterator" "()Ljava/util/Iterator;") ∈ lw_tbl := lw_at lw_m7 87 rfl
theorem q1660 : (Jvm.Cond.declares ({ cls := "java/util/List", name := "iterator", desc := "()Ljava/util/Iterator;" } : Jvm.MethodName)) ∈ lw_tbl := lw_at lw_m7 88 rfl
theorem q922 : (Jvm.Cond.interfaceMethod "jdk/internal/access/JavaLangAccess" "jdk/internal/access/JavaLangAccess" "getUTF16Char" "([BI)C") ∈ lw_tbl := lw_at lw_m4 70 rfl
set_option maxRecDepth 100000
theorem q923 : (Jvm.Cond.declares ({ cls := "jdk/internal/access/JavaLangAccess", name := "getUTF16Char", desc := "([BI)C" } : Jvm.MethodName)) ∈ lw_tbl := lw_at lw_m4 71 rfl
theorem q188 : (Jvm.Cond.arrayOver (Jvm.ClassFile.FieldType.object "java/lang/Object")) ∈ lw_tbl := lw_at lw_m1 56 rfl
set_option maxRecDepth 100000
theorem q199 : (Jvm.Cond.arrayClass Jvm.ClassFile.FieldType.byte) ∈ lw_all := lw_g (lw_at lw_m1 67 rfl) rfl
theorem q201 : (Jvm.Cond.arrayOver (Jvm.ClassFile.FieldType.object "VotingHuts$World")) ∈ lw_tbl := lw_at lw_m1 69 rfl
theorem q264 : (Jvm.Cond.arrayClass Jvm.ClassFile.FieldType.int) ∈ lw_all := lw_g (lw_at lw_m1 132 rfl) rfl
theorem q839 : (Jvm.Cond.arrayClass Jvm.ClassFile.FieldType.boolean) ∈ lw_all := lw_g (lw_at lw_m3 227 rfl) rfl
theorem q1010 : (Jvm.Cond.arrayOver (Jvm.ClassFile.FieldType.array Jvm.ClassFile.FieldType.int)) ∈ lw_tbl := lw_at lw_m4 158 rfl
theorem q2902 : (Jvm.Cond.arrayClass Jvm.ClassFile.FieldType.long) ∈ lw_all := lw_g (lw_at lw_m12 130 rfl) rfl
theorem q2903 : (Jvm.Cond.arrayClass Jvm.ClassFile.FieldType.double) ∈ lw_all := lw_g (lw_at lw_m12 131 rfl) rfl
theorem q2953 : (Jvm.Cond.arrayClass Jvm.ClassFile.FieldType.char) ∈ lw_all := lw_g (lw_at lw_m12 181 rfl) rfl
theorem q2954 : (Jvm.Cond.arrayClass Jvm.ClassFile.FieldType.short) ∈ lw_all := lw_g (lw_at lw_m12 182 rfl) rfl
