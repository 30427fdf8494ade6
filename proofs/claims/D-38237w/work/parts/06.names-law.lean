/-! HaltingaleLaw -/
set_option maxRecDepth 100000
def RX0 : String := "HaltingaleLaw"
abbrev cX0_machine : ByteArray := method_3_code
def yX0_machine : MethodName := ⟨RX0, "machine", "(LHaltingale;I[J)I"⟩
def dkwX0_machine_0 : List UInt8 := [44, 3, 42, 27, 182, 0, 7, 133, 80, 167, 0, 9, 78, 4, 172, 78, 5, 172, 3, 172]
abbrev dktX0_machine_0 : List UInt8 := dkwX0_machine_0 ++ []
theorem dksX0_machine_0 : cX0_machine.data.toList.drop 0 = dktX0_machine_0 := by decide +kernel
theorem dX0_machine_0 : decode cX0_machine 0 = .ok (.aload_n 2, 1) := dk_44 (dk_at dksX0_machine_0 0 rfl rfl)
theorem dX0_machine_1 : decode cX0_machine 1 = .ok (.iconst 0, 1) := dk_3 (dk_at dksX0_machine_0 1 rfl rfl)
theorem dX0_machine_2 : decode cX0_machine 2 = .ok (.aload_n 0, 1) := dk_42 (dk_at dksX0_machine_0 2 rfl rfl)
theorem dX0_machine_3 : decode cX0_machine 3 = .ok (.iload_n 1, 1) := dk_27 (dk_at dksX0_machine_0 3 rfl rfl)
theorem dX0_machine_4 : decode cX0_machine 4 = .ok (.invokevirtual 7, 3) := dk_182 0 7 (dk_at dksX0_machine_0 4 rfl rfl)
theorem dX0_machine_7 : decode cX0_machine 7 = .ok (.i2l, 1) := dk_133 (dk_at dksX0_machine_0 7 rfl rfl)
theorem dX0_machine_8 : decode cX0_machine 8 = .ok (.lastore, 1) := dk_80 (dk_at dksX0_machine_0 8 rfl rfl)
theorem dX0_machine_9 : decode cX0_machine 9 = .ok (.goto 9, 3) := dk_167 0 9 (dk_at dksX0_machine_0 9 rfl rfl)
theorem dX0_machine_12 : decode cX0_machine 12 = .ok (.astore_n 3, 1) := dk_78 (dk_at dksX0_machine_0 12 rfl rfl)
theorem dX0_machine_13 : decode cX0_machine 13 = .ok (.iconst 1, 1) := dk_4 (dk_at dksX0_machine_0 13 rfl rfl)
theorem dX0_machine_14 : decode cX0_machine 14 = .ok (.ireturn, 1) := dk_172 (dk_at dksX0_machine_0 14 rfl rfl)
theorem dX0_machine_15 : decode cX0_machine 15 = .ok (.astore_n 3, 1) := dk_78 (dk_at dksX0_machine_0 15 rfl rfl)
theorem dX0_machine_16 : decode cX0_machine 16 = .ok (.iconst 2, 1) := dk_5 (dk_at dksX0_machine_0 16 rfl rfl)
theorem dX0_machine_17 : decode cX0_machine 17 = .ok (.ireturn, 1) := dk_172 (dk_at dksX0_machine_0 17 rfl rfl)
theorem dX0_machine_18 : decode cX0_machine 18 = .ok (.iconst 0, 1) := dk_3 (dk_at dksX0_machine_0 18 rfl rfl)
theorem dX0_machine_19 : decode cX0_machine 19 = .ok (.ireturn, 1) := dk_172 (dk_at dksX0_machine_0 19 rfl rfl)
abbrev cX0_tell : ByteArray := method_4_code
def yX0_tell : MethodName := ⟨RX0, "tell", "(LHaltingale;IIIIII[J)I"⟩
def dkwX0_tell_1 : List UInt8 := [172, 58, 8, 5, 172, 58, 8, 6, 172, 3, 172]
abbrev dktX0_tell_1 : List UInt8 := dkwX0_tell_1 ++ []
def dkwX0_tell_0 : List UInt8 := [25, 7, 3, 42, 27, 28, 29, 21, 4, 21, 5, 21, 6, 182, 0, 17, 133, 80, 167, 0, 15, 58, 8, 4]
abbrev dktX0_tell_0 : List UInt8 := dkwX0_tell_0 ++ dktX0_tell_1
theorem dksX0_tell_0 : cX0_tell.data.toList.drop 0 = dktX0_tell_0 := by decide +kernel
theorem dksX0_tell_1 : cX0_tell.data.toList.drop 24 = dktX0_tell_1 := dk_seg dksX0_tell_0 24 rfl rfl
theorem dX0_tell_0 : decode cX0_tell 0 = .ok (.aload 7, 2) := dk_25 7 (dk_at dksX0_tell_0 0 rfl rfl)
theorem dX0_tell_2 : decode cX0_tell 2 = .ok (.iconst 0, 1) := dk_3 (dk_at dksX0_tell_0 2 rfl rfl)
theorem dX0_tell_3 : decode cX0_tell 3 = .ok (.aload_n 0, 1) := dk_42 (dk_at dksX0_tell_0 3 rfl rfl)
theorem dX0_tell_4 : decode cX0_tell 4 = .ok (.iload_n 1, 1) := dk_27 (dk_at dksX0_tell_0 4 rfl rfl)
theorem dX0_tell_5 : decode cX0_tell 5 = .ok (.iload_n 2, 1) := dk_28 (dk_at dksX0_tell_0 5 rfl rfl)
theorem dX0_tell_6 : decode cX0_tell 6 = .ok (.iload_n 3, 1) := dk_29 (dk_at dksX0_tell_0 6 rfl rfl)
theorem dX0_tell_7 : decode cX0_tell 7 = .ok (.iload 4, 2) := dk_21 4 (dk_at dksX0_tell_0 7 rfl rfl)
theorem dX0_tell_9 : decode cX0_tell 9 = .ok (.iload 5, 2) := dk_21 5 (dk_at dksX0_tell_0 9 rfl rfl)
theorem dX0_tell_11 : decode cX0_tell 11 = .ok (.iload 6, 2) := dk_21 6 (dk_at dksX0_tell_0 11 rfl rfl)
theorem dX0_tell_13 : decode cX0_tell 13 = .ok (.invokevirtual 17, 3) := dk_182 0 17 (dk_at dksX0_tell_0 13 rfl rfl)
theorem dX0_tell_16 : decode cX0_tell 16 = .ok (.i2l, 1) := dk_133 (dk_at dksX0_tell_0 16 rfl rfl)
theorem dX0_tell_17 : decode cX0_tell 17 = .ok (.lastore, 1) := dk_80 (dk_at dksX0_tell_0 17 rfl rfl)
theorem dX0_tell_18 : decode cX0_tell 18 = .ok (.goto 15, 3) := dk_167 0 15 (dk_at dksX0_tell_0 18 rfl rfl)
theorem dX0_tell_21 : decode cX0_tell 21 = .ok (.astore 8, 2) := dk_58 8 (dk_at dksX0_tell_0 21 rfl rfl)
theorem dX0_tell_23 : decode cX0_tell 23 = .ok (.iconst 1, 1) := dk_4 (dk_at dksX0_tell_0 23 rfl rfl)
theorem dX0_tell_24 : decode cX0_tell 24 = .ok (.ireturn, 1) := dk_172 (dk_at dksX0_tell_1 0 rfl rfl)
theorem dX0_tell_25 : decode cX0_tell 25 = .ok (.astore 8, 2) := dk_58 8 (dk_at dksX0_tell_1 1 rfl rfl)
theorem dX0_tell_27 : decode cX0_tell 27 = .ok (.iconst 2, 1) := dk_5 (dk_at dksX0_tell_1 3 rfl rfl)
theorem dX0_tell_28 : decode cX0_tell 28 = .ok (.ireturn, 1) := dk_172 (dk_at dksX0_tell_1 4 rfl rfl)
theorem dX0_tell_29 : decode cX0_tell 29 = .ok (.astore 8, 2) := dk_58 8 (dk_at dksX0_tell_1 5 rfl rfl)
theorem dX0_tell_31 : decode cX0_tell 31 = .ok (.iconst 3, 1) := dk_6 (dk_at dksX0_tell_1 7 rfl rfl)
theorem dX0_tell_32 : decode cX0_tell 32 = .ok (.ireturn, 1) := dk_172 (dk_at dksX0_tell_1 8 rfl rfl)
theorem dX0_tell_33 : decode cX0_tell 33 = .ok (.iconst 0, 1) := dk_3 (dk_at dksX0_tell_1 9 rfl rfl)
theorem dX0_tell_34 : decode cX0_tell 34 = .ok (.ireturn, 1) := dk_172 (dk_at dksX0_tell_1 10 rfl rfl)
abbrev cX0_amend : ByteArray := method_5_code
def yX0_amend : MethodName := ⟨RX0, "amend", "(LHaltingale;IIIIII[J)I"⟩
def dkwX0_amend_1 : List UInt8 := [80, 167, 0, 15, 58, 8, 4, 172, 58, 8, 5, 172, 58, 8, 6, 172, 3, 172]
abbrev dktX0_amend_1 : List UInt8 := dkwX0_amend_1 ++ []
def dkwX0_amend_0 : List UInt8 := [25, 7, 3, 42, 27, 28, 29, 21, 4, 21, 5, 21, 6, 182, 0, 23, 153, 0, 7, 10, 167, 0, 4, 9]
abbrev dktX0_amend_0 : List UInt8 := dkwX0_amend_0 ++ dktX0_amend_1
theorem dksX0_amend_0 : cX0_amend.data.toList.drop 0 = dktX0_amend_0 := by decide +kernel
theorem dksX0_amend_1 : cX0_amend.data.toList.drop 24 = dktX0_amend_1 := dk_seg dksX0_amend_0 24 rfl rfl
theorem dX0_amend_0 : decode cX0_amend 0 = .ok (.aload 7, 2) := dk_25 7 (dk_at dksX0_amend_0 0 rfl rfl)
theorem dX0_amend_2 : decode cX0_amend 2 = .ok (.iconst 0, 1) := dk_3 (dk_at dksX0_amend_0 2 rfl rfl)
theorem dX0_amend_3 : decode cX0_amend 3 = .ok (.aload_n 0, 1) := dk_42 (dk_at dksX0_amend_0 3 rfl rfl)
theorem dX0_amend_4 : decode cX0_amend 4 = .ok (.iload_n 1, 1) := dk_27 (dk_at dksX0_amend_0 4 rfl rfl)
theorem dX0_amend_5 : decode cX0_amend 5 = .ok (.iload_n 2, 1) := dk_28 (dk_at dksX0_amend_0 5 rfl rfl)
theorem dX0_amend_6 : decode cX0_amend 6 = .ok (.iload_n 3, 1) := dk_29 (dk_at dksX0_amend_0 6 rfl rfl)
theorem dX0_amend_7 : decode cX0_amend 7 = .ok (.iload 4, 2) := dk_21 4 (dk_at dksX0_amend_0 7 rfl rfl)
theorem dX0_amend_9 : decode cX0_amend 9 = .ok (.iload 5, 2) := dk_21 5 (dk_at dksX0_amend_0 9 rfl rfl)
theorem dX0_amend_11 : decode cX0_amend 11 = .ok (.iload 6, 2) := dk_21 6 (dk_at dksX0_amend_0 11 rfl rfl)
theorem dX0_amend_13 : decode cX0_amend 13 = .ok (.invokevirtual 23, 3) := dk_182 0 23 (dk_at dksX0_amend_0 13 rfl rfl)
theorem dX0_amend_16 : decode cX0_amend 16 = .ok (.ifCond .eq 7, 3) := dk_153 0 7 (dk_at dksX0_amend_0 16 rfl rfl)
theorem dX0_amend_19 : decode cX0_amend 19 = .ok (.lconst 1, 1) := dk_10 (dk_at dksX0_amend_0 19 rfl rfl)
theorem dX0_amend_20 : decode cX0_amend 20 = .ok (.goto 4, 3) := dk_167 0 4 (dk_at dksX0_amend_0 20 rfl rfl)
theorem dX0_amend_23 : decode cX0_amend 23 = .ok (.lconst 0, 1) := dk_9 (dk_at dksX0_amend_0 23 rfl rfl)
theorem dX0_amend_24 : decode cX0_amend 24 = .ok (.lastore, 1) := dk_80 (dk_at dksX0_amend_1 0 rfl rfl)
theorem dX0_amend_25 : decode cX0_amend 25 = .ok (.goto 15, 3) := dk_167 0 15 (dk_at dksX0_amend_1 1 rfl rfl)
theorem dX0_amend_28 : decode cX0_amend 28 = .ok (.astore 8, 2) := dk_58 8 (dk_at dksX0_amend_1 4 rfl rfl)
theorem dX0_amend_30 : decode cX0_amend 30 = .ok (.iconst 1, 1) := dk_4 (dk_at dksX0_amend_1 6 rfl rfl)
theorem dX0_amend_31 : decode cX0_amend 31 = .ok (.ireturn, 1) := dk_172 (dk_at dksX0_amend_1 7 rfl rfl)
theorem dX0_amend_32 : decode cX0_amend 32 = .ok (.astore 8, 2) := dk_58 8 (dk_at dksX0_amend_1 8 rfl rfl)
theorem dX0_amend_34 : decode cX0_amend 34 = .ok (.iconst 2, 1) := dk_5 (dk_at dksX0_amend_1 10 rfl rfl)
theorem dX0_amend_35 : decode cX0_amend 35 = .ok (.ireturn, 1) := dk_172 (dk_at dksX0_amend_1 11 rfl rfl)
theorem dX0_amend_36 : decode cX0_amend 36 = .ok (.astore 8, 2) := dk_58 8 (dk_at dksX0_amend_1 12 rfl rfl)
theorem dX0_amend_38 : decode cX0_amend 38 = .ok (.iconst 3, 1) := dk_6 (dk_at dksX0_amend_1 14 rfl rfl)
theorem dX0_amend_39 : decode cX0_amend 39 = .ok (.ireturn, 1) := dk_172 (dk_at dksX0_amend_1 15 rfl rfl)
theorem dX0_amend_40 : decode cX0_amend 40 = .ok (.iconst 0, 1) := dk_3 (dk_at dksX0_amend_1 16 rfl rfl)
theorem dX0_amend_41 : decode cX0_amend 41 = .ok (.ireturn, 1) := dk_172 (dk_at dksX0_amend_1 17 rfl rfl)
abbrev cX0_child : ByteArray := method_6_code
def yX0_child : MethodName := ⟨RX0, "child", "(LHaltingale;II[J)I"⟩
def dkwX0_child_1 : List UInt8 := [172, 3, 172]
abbrev dktX0_child_1 : List UInt8 := dkwX0_child_1 ++ []
def dkwX0_child_0 : List UInt8 := [45, 3, 42, 27, 28, 182, 0, 27, 133, 80, 167, 0, 15, 58, 4, 4, 172, 58, 4, 5, 172, 58, 4, 6]
abbrev dktX0_child_0 : List UInt8 := dkwX0_child_0 ++ dktX0_child_1
theorem dksX0_child_0 : cX0_child.data.toList.drop 0 = dktX0_child_0 := by decide +kernel
theorem dksX0_child_1 : cX0_child.data.toList.drop 24 = dktX0_child_1 := dk_seg dksX0_child_0 24 rfl rfl
theorem dX0_child_0 : decode cX0_child 0 = .ok (.aload_n 3, 1) := dk_45 (dk_at dksX0_child_0 0 rfl rfl)
theorem dX0_child_1 : decode cX0_child 1 = .ok (.iconst 0, 1) := dk_3 (dk_at dksX0_child_0 1 rfl rfl)
theorem dX0_child_2 : decode cX0_child 2 = .ok (.aload_n 0, 1) := dk_42 (dk_at dksX0_child_0 2 rfl rfl)
theorem dX0_child_3 : decode cX0_child 3 = .ok (.iload_n 1, 1) := dk_27 (dk_at dksX0_child_0 3 rfl rfl)
theorem dX0_child_4 : decode cX0_child 4 = .ok (.iload_n 2, 1) := dk_28 (dk_at dksX0_child_0 4 rfl rfl)
theorem dX0_child_5 : decode cX0_child 5 = .ok (.invokevirtual 27, 3) := dk_182 0 27 (dk_at dksX0_child_0 5 rfl rfl)
theorem dX0_child_8 : decode cX0_child 8 = .ok (.i2l, 1) := dk_133 (dk_at dksX0_child_0 8 rfl rfl)
theorem dX0_child_9 : decode cX0_child 9 = .ok (.lastore, 1) := dk_80 (dk_at dksX0_child_0 9 rfl rfl)
theorem dX0_child_10 : decode cX0_child 10 = .ok (.goto 15, 3) := dk_167 0 15 (dk_at dksX0_child_0 10 rfl rfl)
theorem dX0_child_13 : decode cX0_child 13 = .ok (.astore 4, 2) := dk_58 4 (dk_at dksX0_child_0 13 rfl rfl)
theorem dX0_child_15 : decode cX0_child 15 = .ok (.iconst 1, 1) := dk_4 (dk_at dksX0_child_0 15 rfl rfl)
theorem dX0_child_16 : decode cX0_child 16 = .ok (.ireturn, 1) := dk_172 (dk_at dksX0_child_0 16 rfl rfl)
theorem dX0_child_17 : decode cX0_child 17 = .ok (.astore 4, 2) := dk_58 4 (dk_at dksX0_child_0 17 rfl rfl)
theorem dX0_child_19 : decode cX0_child 19 = .ok (.iconst 2, 1) := dk_5 (dk_at dksX0_child_0 19 rfl rfl)
theorem dX0_child_20 : decode cX0_child 20 = .ok (.ireturn, 1) := dk_172 (dk_at dksX0_child_0 20 rfl rfl)
theorem dX0_child_21 : decode cX0_child 21 = .ok (.astore 4, 2) := dk_58 4 (dk_at dksX0_child_0 21 rfl rfl)
theorem dX0_child_23 : decode cX0_child 23 = .ok (.iconst 3, 1) := dk_6 (dk_at dksX0_child_0 23 rfl rfl)
theorem dX0_child_24 : decode cX0_child 24 = .ok (.ireturn, 1) := dk_172 (dk_at dksX0_child_1 0 rfl rfl)
theorem dX0_child_25 : decode cX0_child 25 = .ok (.iconst 0, 1) := dk_3 (dk_at dksX0_child_1 1 rfl rfl)
theorem dX0_child_26 : decode cX0_child 26 = .ok (.ireturn, 1) := dk_172 (dk_at dksX0_child_1 2 rfl rfl)
abbrev cX0_tag : ByteArray := method_7_code
def yX0_tag : MethodName := ⟨RX0, "tag", "(LHaltingale;III[J)I"⟩
def dkwX0_tag_1 : List UInt8 := [172]
abbrev dktX0_tag_1 : List UInt8 := dkwX0_tag_1 ++ []
def dkwX0_tag_0 : List UInt8 := [25, 4, 3, 42, 27, 28, 29, 182, 0, 31, 133, 80, 167, 0, 11, 58, 5, 4, 172, 58, 5, 5, 172, 3]
abbrev dktX0_tag_0 : List UInt8 := dkwX0_tag_0 ++ dktX0_tag_1
theorem dksX0_tag_0 : cX0_tag.data.toList.drop 0 = dktX0_tag_0 := by decide +kernel
theorem dksX0_tag_1 : cX0_tag.data.toList.drop 24 = dktX0_tag_1 := dk_seg dksX0_tag_0 24 rfl rfl
theorem dX0_tag_0 : decode cX0_tag 0 = .ok (.aload 4, 2) := dk_25 4 (dk_at dksX0_tag_0 0 rfl rfl)
theorem dX0_tag_2 : decode cX0_tag 2 = .ok (.iconst 0, 1) := dk_3 (dk_at dksX0_tag_0 2 rfl rfl)
theorem dX0_tag_3 : decode cX0_tag 3 = .ok (.aload_n 0, 1) := dk_42 (dk_at dksX0_tag_0 3 rfl rfl)
theorem dX0_tag_4 : decode cX0_tag 4 = .ok (.iload_n 1, 1) := dk_27 (dk_at dksX0_tag_0 4 rfl rfl)
theorem dX0_tag_5 : decode cX0_tag 5 = .ok (.iload_n 2, 1) := dk_28 (dk_at dksX0_tag_0 5 rfl rfl)
theorem dX0_tag_6 : decode cX0_tag 6 = .ok (.iload_n 3, 1) := dk_29 (dk_at dksX0_tag_0 6 rfl rfl)
theorem dX0_tag_7 : decode cX0_tag 7 = .ok (.invokevirtual 31, 3) := dk_182 0 31 (dk_at dksX0_tag_0 7 rfl rfl)
theorem dX0_tag_10 : decode cX0_tag 10 = .ok (.i2l, 1) := dk_133 (dk_at dksX0_tag_0 10 rfl rfl)
theorem dX0_tag_11 : decode cX0_tag 11 = .ok (.lastore, 1) := dk_80 (dk_at dksX0_tag_0 11 rfl rfl)
theorem dX0_tag_12 : decode cX0_tag 12 = .ok (.goto 11, 3) := dk_167 0 11 (dk_at dksX0_tag_0 12 rfl rfl)
theorem dX0_tag_15 : decode cX0_tag 15 = .ok (.astore 5, 2) := dk_58 5 (dk_at dksX0_tag_0 15 rfl rfl)
theorem dX0_tag_17 : decode cX0_tag 17 = .ok (.iconst 1, 1) := dk_4 (dk_at dksX0_tag_0 17 rfl rfl)
theorem dX0_tag_18 : decode cX0_tag 18 = .ok (.ireturn, 1) := dk_172 (dk_at dksX0_tag_0 18 rfl rfl)
theorem dX0_tag_19 : decode cX0_tag 19 = .ok (.astore 5, 2) := dk_58 5 (dk_at dksX0_tag_0 19 rfl rfl)
theorem dX0_tag_21 : decode cX0_tag 21 = .ok (.iconst 2, 1) := dk_5 (dk_at dksX0_tag_0 21 rfl rfl)
theorem dX0_tag_22 : decode cX0_tag 22 = .ok (.ireturn, 1) := dk_172 (dk_at dksX0_tag_0 22 rfl rfl)
theorem dX0_tag_23 : decode cX0_tag 23 = .ok (.iconst 0, 1) := dk_3 (dk_at dksX0_tag_0 23 rfl rfl)
theorem dX0_tag_24 : decode cX0_tag 24 = .ok (.ireturn, 1) := dk_172 (dk_at dksX0_tag_1 0 rfl rfl)
abbrev cX0_prove : ByteArray := method_8_code
def yX0_prove : MethodName := ⟨RX0, "prove", "(LHaltingale;IIII[J)I"⟩
def dkwX0_prove_1 : List UInt8 := [58, 6, 4, 172, 58, 6, 5, 172, 58, 6, 6, 172, 3, 172]
abbrev dktX0_prove_1 : List UInt8 := dkwX0_prove_1 ++ []
def dkwX0_prove_0 : List UInt8 := [25, 5, 3, 42, 27, 28, 29, 21, 4, 182, 0, 35, 153, 0, 7, 10, 167, 0, 4, 9, 80, 167, 0, 15]
abbrev dktX0_prove_0 : List UInt8 := dkwX0_prove_0 ++ dktX0_prove_1
theorem dksX0_prove_0 : cX0_prove.data.toList.drop 0 = dktX0_prove_0 := by decide +kernel
theorem dksX0_prove_1 : cX0_prove.data.toList.drop 24 = dktX0_prove_1 := dk_seg dksX0_prove_0 24 rfl rfl
theorem dX0_prove_0 : decode cX0_prove 0 = .ok (.aload 5, 2) := dk_25 5 (dk_at dksX0_prove_0 0 rfl rfl)
theorem dX0_prove_2 : decode cX0_prove 2 = .ok (.iconst 0, 1) := dk_3 (dk_at dksX0_prove_0 2 rfl rfl)
theorem dX0_prove_3 : decode cX0_prove 3 = .ok (.aload_n 0, 1) := dk_42 (dk_at dksX0_prove_0 3 rfl rfl)
theorem dX0_prove_4 : decode cX0_prove 4 = .ok (.iload_n 1, 1) := dk_27 (dk_at dksX0_prove_0 4 rfl rfl)
theorem dX0_prove_5 : decode cX0_prove 5 = .ok (.iload_n 2, 1) := dk_28 (dk_at dksX0_prove_0 5 rfl rfl)
theorem dX0_prove_6 : decode cX0_prove 6 = .ok (.iload_n 3, 1) := dk_29 (dk_at dksX0_prove_0 6 rfl rfl)
theorem dX0_prove_7 : decode cX0_prove 7 = .ok (.iload 4, 2) := dk_21 4 (dk_at dksX0_prove_0 7 rfl rfl)
theorem dX0_prove_9 : decode cX0_prove 9 = .ok (.invokevirtual 35, 3) := dk_182 0 35 (dk_at dksX0_prove_0 9 rfl rfl)
theorem dX0_prove_12 : decode cX0_prove 12 = .ok (.ifCond .eq 7, 3) := dk_153 0 7 (dk_at dksX0_prove_0 12 rfl rfl)
theorem dX0_prove_15 : decode cX0_prove 15 = .ok (.lconst 1, 1) := dk_10 (dk_at dksX0_prove_0 15 rfl rfl)
theorem dX0_prove_16 : decode cX0_prove 16 = .ok (.goto 4, 3) := dk_167 0 4 (dk_at dksX0_prove_0 16 rfl rfl)
theorem dX0_prove_19 : decode cX0_prove 19 = .ok (.lconst 0, 1) := dk_9 (dk_at dksX0_prove_0 19 rfl rfl)
theorem dX0_prove_20 : decode cX0_prove 20 = .ok (.lastore, 1) := dk_80 (dk_at dksX0_prove_0 20 rfl rfl)
theorem dX0_prove_21 : decode cX0_prove 21 = .ok (.goto 15, 3) := dk_167 0 15 (dk_at dksX0_prove_0 21 rfl rfl)
theorem dX0_prove_24 : decode cX0_prove 24 = .ok (.astore 6, 2) := dk_58 6 (dk_at dksX0_prove_1 0 rfl rfl)
theorem dX0_prove_26 : decode cX0_prove 26 = .ok (.iconst 1, 1) := dk_4 (dk_at dksX0_prove_1 2 rfl rfl)
theorem dX0_prove_27 : decode cX0_prove 27 = .ok (.ireturn, 1) := dk_172 (dk_at dksX0_prove_1 3 rfl rfl)
theorem dX0_prove_28 : decode cX0_prove 28 = .ok (.astore 6, 2) := dk_58 6 (dk_at dksX0_prove_1 4 rfl rfl)
theorem dX0_prove_30 : decode cX0_prove 30 = .ok (.iconst 2, 1) := dk_5 (dk_at dksX0_prove_1 6 rfl rfl)
theorem dX0_prove_31 : decode cX0_prove 31 = .ok (.ireturn, 1) := dk_172 (dk_at dksX0_prove_1 7 rfl rfl)
theorem dX0_prove_32 : decode cX0_prove 32 = .ok (.astore 6, 2) := dk_58 6 (dk_at dksX0_prove_1 8 rfl rfl)
theorem dX0_prove_34 : decode cX0_prove 34 = .ok (.iconst 3, 1) := dk_6 (dk_at dksX0_prove_1 10 rfl rfl)
theorem dX0_prove_35 : decode cX0_prove 35 = .ok (.ireturn, 1) := dk_172 (dk_at dksX0_prove_1 11 rfl rfl)
theorem dX0_prove_36 : decode cX0_prove 36 = .ok (.iconst 0, 1) := dk_3 (dk_at dksX0_prove_1 12 rfl rfl)
theorem dX0_prove_37 : decode cX0_prove 37 = .ok (.ireturn, 1) := dk_172 (dk_at dksX0_prove_1 13 rfl rfl)
abbrev cX0_doubt : ByteArray := method_9_code
def yX0_doubt : MethodName := ⟨RX0, "doubt", "(LHaltingale;I[J)I"⟩
def dkwX0_doubt_0 : List UInt8 := [44, 3, 42, 27, 182, 0, 39, 133, 80, 167, 0, 6, 78, 4, 172, 3, 172]
abbrev dktX0_doubt_0 : List UInt8 := dkwX0_doubt_0 ++ []
theorem dksX0_doubt_0 : cX0_doubt.data.toList.drop 0 = dktX0_doubt_0 := by decide +kernel
theorem dX0_doubt_0 : decode cX0_doubt 0 = .ok (.aload_n 2, 1) := dk_44 (dk_at dksX0_doubt_0 0 rfl rfl)
theorem dX0_doubt_1 : decode cX0_doubt 1 = .ok (.iconst 0, 1) := dk_3 (dk_at dksX0_doubt_0 1 rfl rfl)
theorem dX0_doubt_2 : decode cX0_doubt 2 = .ok (.aload_n 0, 1) := dk_42 (dk_at dksX0_doubt_0 2 rfl rfl)
theorem dX0_doubt_3 : decode cX0_doubt 3 = .ok (.iload_n 1, 1) := dk_27 (dk_at dksX0_doubt_0 3 rfl rfl)
theorem dX0_doubt_4 : decode cX0_doubt 4 = .ok (.invokevirtual 39, 3) := dk_182 0 39 (dk_at dksX0_doubt_0 4 rfl rfl)
theorem dX0_doubt_7 : decode cX0_doubt 7 = .ok (.i2l, 1) := dk_133 (dk_at dksX0_doubt_0 7 rfl rfl)
theorem dX0_doubt_8 : decode cX0_doubt 8 = .ok (.lastore, 1) := dk_80 (dk_at dksX0_doubt_0 8 rfl rfl)
theorem dX0_doubt_9 : decode cX0_doubt 9 = .ok (.goto 6, 3) := dk_167 0 6 (dk_at dksX0_doubt_0 9 rfl rfl)
theorem dX0_doubt_12 : decode cX0_doubt 12 = .ok (.astore_n 3, 1) := dk_78 (dk_at dksX0_doubt_0 12 rfl rfl)
theorem dX0_doubt_13 : decode cX0_doubt 13 = .ok (.iconst 1, 1) := dk_4 (dk_at dksX0_doubt_0 13 rfl rfl)
theorem dX0_doubt_14 : decode cX0_doubt 14 = .ok (.ireturn, 1) := dk_172 (dk_at dksX0_doubt_0 14 rfl rfl)
theorem dX0_doubt_15 : decode cX0_doubt 15 = .ok (.iconst 0, 1) := dk_3 (dk_at dksX0_doubt_0 15 rfl rfl)
theorem dX0_doubt_16 : decode cX0_doubt 16 = .ok (.ireturn, 1) := dk_172 (dk_at dksX0_doubt_0 16 rfl rfl)
abbrev cX0_decide : ByteArray := method_10_code
def yX0_decide : MethodName := ⟨RX0, "decide", "(LHaltingale;I[J)I"⟩
def dkwX0_decide_0 : List UInt8 := [44, 3, 42, 27, 182, 0, 42, 133, 80, 167, 0, 9, 78, 4, 172, 78, 5, 172, 3, 172]
abbrev dktX0_decide_0 : List UInt8 := dkwX0_decide_0 ++ []
theorem dksX0_decide_0 : cX0_decide.data.toList.drop 0 = dktX0_decide_0 := by decide +kernel
theorem dX0_decide_0 : decode cX0_decide 0 = .ok (.aload_n 2, 1) := dk_44 (dk_at dksX0_decide_0 0 rfl rfl)
theorem dX0_decide_1 : decode cX0_decide 1 = .ok (.iconst 0, 1) := dk_3 (dk_at dksX0_decide_0 1 rfl rfl)
theorem dX0_decide_2 : decode cX0_decide 2 = .ok (.aload_n 0, 1) := dk_42 (dk_at dksX0_decide_0 2 rfl rfl)
theorem dX0_decide_3 : decode cX0_decide 3 = .ok (.iload_n 1, 1) := dk_27 (dk_at dksX0_decide_0 3 rfl rfl)
theorem dX0_decide_4 : decode cX0_decide 4 = .ok (.invokevirtual 42, 3) := dk_182 0 42 (dk_at dksX0_decide_0 4 rfl rfl)
theorem dX0_decide_7 : decode cX0_decide 7 = .ok (.i2l, 1) := dk_133 (dk_at dksX0_decide_0 7 rfl rfl)
theorem dX0_decide_8 : decode cX0_decide 8 = .ok (.lastore, 1) := dk_80 (dk_at dksX0_decide_0 8 rfl rfl)
theorem dX0_decide_9 : decode cX0_decide 9 = .ok (.goto 9, 3) := dk_167 0 9 (dk_at dksX0_decide_0 9 rfl rfl)
theorem dX0_decide_12 : decode cX0_decide 12 = .ok (.astore_n 3, 1) := dk_78 (dk_at dksX0_decide_0 12 rfl rfl)
theorem dX0_decide_13 : decode cX0_decide 13 = .ok (.iconst 1, 1) := dk_4 (dk_at dksX0_decide_0 13 rfl rfl)
theorem dX0_decide_14 : decode cX0_decide 14 = .ok (.ireturn, 1) := dk_172 (dk_at dksX0_decide_0 14 rfl rfl)
theorem dX0_decide_15 : decode cX0_decide 15 = .ok (.astore_n 3, 1) := dk_78 (dk_at dksX0_decide_0 15 rfl rfl)
theorem dX0_decide_16 : decode cX0_decide 16 = .ok (.iconst 2, 1) := dk_5 (dk_at dksX0_decide_0 16 rfl rfl)
theorem dX0_decide_17 : decode cX0_decide 17 = .ok (.ireturn, 1) := dk_172 (dk_at dksX0_decide_0 17 rfl rfl)
theorem dX0_decide_18 : decode cX0_decide 18 = .ok (.iconst 0, 1) := dk_3 (dk_at dksX0_decide_0 18 rfl rfl)
theorem dX0_decide_19 : decode cX0_decide 19 = .ok (.ireturn, 1) := dk_172 (dk_at dksX0_decide_0 19 rfl rfl)
abbrev cX0_cell : ByteArray := method_11_code
def yX0_cell : MethodName := ⟨RX0, "cell", "(LHaltingale;IIII[J)I"⟩
def dkwX0_cell_1 : List UInt8 := [172, 3, 172]
abbrev dktX0_cell_1 : List UInt8 := dkwX0_cell_1 ++ []
def dkwX0_cell_0 : List UInt8 := [25, 5, 3, 42, 27, 28, 29, 21, 4, 182, 0, 45, 133, 80, 167, 0, 11, 58, 6, 4, 172, 58, 6, 5]
abbrev dktX0_cell_0 : List UInt8 := dkwX0_cell_0 ++ dktX0_cell_1
theorem dksX0_cell_0 : cX0_cell.data.toList.drop 0 = dktX0_cell_0 := by decide +kernel
theorem dksX0_cell_1 : cX0_cell.data.toList.drop 24 = dktX0_cell_1 := dk_seg dksX0_cell_0 24 rfl rfl
theorem dX0_cell_0 : decode cX0_cell 0 = .ok (.aload 5, 2) := dk_25 5 (dk_at dksX0_cell_0 0 rfl rfl)
theorem dX0_cell_2 : decode cX0_cell 2 = .ok (.iconst 0, 1) := dk_3 (dk_at dksX0_cell_0 2 rfl rfl)
theorem dX0_cell_3 : decode cX0_cell 3 = .ok (.aload_n 0, 1) := dk_42 (dk_at dksX0_cell_0 3 rfl rfl)
theorem dX0_cell_4 : decode cX0_cell 4 = .ok (.iload_n 1, 1) := dk_27 (dk_at dksX0_cell_0 4 rfl rfl)
theorem dX0_cell_5 : decode cX0_cell 5 = .ok (.iload_n 2, 1) := dk_28 (dk_at dksX0_cell_0 5 rfl rfl)
theorem dX0_cell_6 : decode cX0_cell 6 = .ok (.iload_n 3, 1) := dk_29 (dk_at dksX0_cell_0 6 rfl rfl)
theorem dX0_cell_7 : decode cX0_cell 7 = .ok (.iload 4, 2) := dk_21 4 (dk_at dksX0_cell_0 7 rfl rfl)
theorem dX0_cell_9 : decode cX0_cell 9 = .ok (.invokevirtual 45, 3) := dk_182 0 45 (dk_at dksX0_cell_0 9 rfl rfl)
theorem dX0_cell_12 : decode cX0_cell 12 = .ok (.i2l, 1) := dk_133 (dk_at dksX0_cell_0 12 rfl rfl)
theorem dX0_cell_13 : decode cX0_cell 13 = .ok (.lastore, 1) := dk_80 (dk_at dksX0_cell_0 13 rfl rfl)
theorem dX0_cell_14 : decode cX0_cell 14 = .ok (.goto 11, 3) := dk_167 0 11 (dk_at dksX0_cell_0 14 rfl rfl)
theorem dX0_cell_17 : decode cX0_cell 17 = .ok (.astore 6, 2) := dk_58 6 (dk_at dksX0_cell_0 17 rfl rfl)
theorem dX0_cell_19 : decode cX0_cell 19 = .ok (.iconst 1, 1) := dk_4 (dk_at dksX0_cell_0 19 rfl rfl)
theorem dX0_cell_20 : decode cX0_cell 20 = .ok (.ireturn, 1) := dk_172 (dk_at dksX0_cell_0 20 rfl rfl)
theorem dX0_cell_21 : decode cX0_cell 21 = .ok (.astore 6, 2) := dk_58 6 (dk_at dksX0_cell_0 21 rfl rfl)
theorem dX0_cell_23 : decode cX0_cell 23 = .ok (.iconst 2, 1) := dk_5 (dk_at dksX0_cell_0 23 rfl rfl)
theorem dX0_cell_24 : decode cX0_cell 24 = .ok (.ireturn, 1) := dk_172 (dk_at dksX0_cell_1 0 rfl rfl)
theorem dX0_cell_25 : decode cX0_cell 25 = .ok (.iconst 0, 1) := dk_3 (dk_at dksX0_cell_1 1 rfl rfl)
theorem dX0_cell_26 : decode cX0_cell 26 = .ok (.ireturn, 1) := dk_172 (dk_at dksX0_cell_1 2 rfl rfl)
abbrev cX0_ofMachine : ByteArray := method_12_code
def yX0_ofMachine : MethodName := ⟨RX0, "ofMachine", "(LHaltingale;II[J)I"⟩
def dkwX0_ofMachine_0 : List UInt8 := [45, 3, 42, 27, 28, 182, 0, 49, 133, 80, 167, 0, 11, 58, 4, 4, 172, 58, 4, 5, 172, 3, 172]
abbrev dktX0_ofMachine_0 : List UInt8 := dkwX0_ofMachine_0 ++ []
theorem dksX0_ofMachine_0 : cX0_ofMachine.data.toList.drop 0 = dktX0_ofMachine_0 := by decide +kernel
theorem dX0_ofMachine_0 : decode cX0_ofMachine 0 = .ok (.aload_n 3, 1) := dk_45 (dk_at dksX0_ofMachine_0 0 rfl rfl)
theorem dX0_ofMachine_1 : decode cX0_ofMachine 1 = .ok (.iconst 0, 1) := dk_3 (dk_at dksX0_ofMachine_0 1 rfl rfl)
theorem dX0_ofMachine_2 : decode cX0_ofMachine 2 = .ok (.aload_n 0, 1) := dk_42 (dk_at dksX0_ofMachine_0 2 rfl rfl)
theorem dX0_ofMachine_3 : decode cX0_ofMachine 3 = .ok (.iload_n 1, 1) := dk_27 (dk_at dksX0_ofMachine_0 3 rfl rfl)
theorem dX0_ofMachine_4 : decode cX0_ofMachine 4 = .ok (.iload_n 2, 1) := dk_28 (dk_at dksX0_ofMachine_0 4 rfl rfl)
theorem dX0_ofMachine_5 : decode cX0_ofMachine 5 = .ok (.invokevirtual 49, 3) := dk_182 0 49 (dk_at dksX0_ofMachine_0 5 rfl rfl)
theorem dX0_ofMachine_8 : decode cX0_ofMachine 8 = .ok (.i2l, 1) := dk_133 (dk_at dksX0_ofMachine_0 8 rfl rfl)
theorem dX0_ofMachine_9 : decode cX0_ofMachine 9 = .ok (.lastore, 1) := dk_80 (dk_at dksX0_ofMachine_0 9 rfl rfl)
theorem dX0_ofMachine_10 : decode cX0_ofMachine 10 = .ok (.goto 11, 3) := dk_167 0 11 (dk_at dksX0_ofMachine_0 10 rfl rfl)
theorem dX0_ofMachine_13 : decode cX0_ofMachine 13 = .ok (.astore 4, 2) := dk_58 4 (dk_at dksX0_ofMachine_0 13 rfl rfl)
theorem dX0_ofMachine_15 : decode cX0_ofMachine 15 = .ok (.iconst 1, 1) := dk_4 (dk_at dksX0_ofMachine_0 15 rfl rfl)
theorem dX0_ofMachine_16 : decode cX0_ofMachine 16 = .ok (.ireturn, 1) := dk_172 (dk_at dksX0_ofMachine_0 16 rfl rfl)
theorem dX0_ofMachine_17 : decode cX0_ofMachine 17 = .ok (.astore 4, 2) := dk_58 4 (dk_at dksX0_ofMachine_0 17 rfl rfl)
theorem dX0_ofMachine_19 : decode cX0_ofMachine 19 = .ok (.iconst 2, 1) := dk_5 (dk_at dksX0_ofMachine_0 19 rfl rfl)
theorem dX0_ofMachine_20 : decode cX0_ofMachine 20 = .ok (.ireturn, 1) := dk_172 (dk_at dksX0_ofMachine_0 20 rfl rfl)
theorem dX0_ofMachine_21 : decode cX0_ofMachine 21 = .ok (.iconst 0, 1) := dk_3 (dk_at dksX0_ofMachine_0 21 rfl rfl)
theorem dX0_ofMachine_22 : decode cX0_ofMachine 22 = .ok (.ireturn, 1) := dk_172 (dk_at dksX0_ofMachine_0 22 rfl rfl)
abbrev cX0_at : ByteArray := method_13_code
def yX0_at : MethodName := ⟨RX0, "at", "(LHaltingale;III[J)I"⟩
def dkwX0_at_1 : List UInt8 := [172]
abbrev dktX0_at_1 : List UInt8 := dkwX0_at_1 ++ []
def dkwX0_at_0 : List UInt8 := [25, 4, 3, 42, 27, 28, 29, 182, 0, 52, 133, 80, 167, 0, 11, 58, 5, 4, 172, 58, 5, 5, 172, 3]
abbrev dktX0_at_0 : List UInt8 := dkwX0_at_0 ++ dktX0_at_1
theorem dksX0_at_0 : cX0_at.data.toList.drop 0 = dktX0_at_0 := by decide +kernel
theorem dksX0_at_1 : cX0_at.data.toList.drop 24 = dktX0_at_1 := dk_seg dksX0_at_0 24 rfl rfl
theorem dX0_at_0 : decode cX0_at 0 = .ok (.aload 4, 2) := dk_25 4 (dk_at dksX0_at_0 0 rfl rfl)
theorem dX0_at_2 : decode cX0_at 2 = .ok (.iconst 0, 1) := dk_3 (dk_at dksX0_at_0 2 rfl rfl)
theorem dX0_at_3 : decode cX0_at 3 = .ok (.aload_n 0, 1) := dk_42 (dk_at dksX0_at_0 3 rfl rfl)
theorem dX0_at_4 : decode cX0_at 4 = .ok (.iload_n 1, 1) := dk_27 (dk_at dksX0_at_0 4 rfl rfl)
theorem dX0_at_5 : decode cX0_at 5 = .ok (.iload_n 2, 1) := dk_28 (dk_at dksX0_at_0 5 rfl rfl)
theorem dX0_at_6 : decode cX0_at 6 = .ok (.iload_n 3, 1) := dk_29 (dk_at dksX0_at_0 6 rfl rfl)
theorem dX0_at_7 : decode cX0_at 7 = .ok (.invokevirtual 52, 3) := dk_182 0 52 (dk_at dksX0_at_0 7 rfl rfl)
theorem dX0_at_10 : decode cX0_at 10 = .ok (.i2l, 1) := dk_133 (dk_at dksX0_at_0 10 rfl rfl)
theorem dX0_at_11 : decode cX0_at 11 = .ok (.lastore, 1) := dk_80 (dk_at dksX0_at_0 11 rfl rfl)
theorem dX0_at_12 : decode cX0_at 12 = .ok (.goto 11, 3) := dk_167 0 11 (dk_at dksX0_at_0 12 rfl rfl)
theorem dX0_at_15 : decode cX0_at 15 = .ok (.astore 5, 2) := dk_58 5 (dk_at dksX0_at_0 15 rfl rfl)
theorem dX0_at_17 : decode cX0_at 17 = .ok (.iconst 1, 1) := dk_4 (dk_at dksX0_at_0 17 rfl rfl)
theorem dX0_at_18 : decode cX0_at 18 = .ok (.ireturn, 1) := dk_172 (dk_at dksX0_at_0 18 rfl rfl)
theorem dX0_at_19 : decode cX0_at 19 = .ok (.astore 5, 2) := dk_58 5 (dk_at dksX0_at_0 19 rfl rfl)
theorem dX0_at_21 : decode cX0_at 21 = .ok (.iconst 2, 1) := dk_5 (dk_at dksX0_at_0 21 rfl rfl)
theorem dX0_at_22 : decode cX0_at 22 = .ok (.ireturn, 1) := dk_172 (dk_at dksX0_at_0 22 rfl rfl)
theorem dX0_at_23 : decode cX0_at 23 = .ok (.iconst 0, 1) := dk_3 (dk_at dksX0_at_0 23 rfl rfl)
theorem dX0_at_24 : decode cX0_at 24 = .ok (.ireturn, 1) := dk_172 (dk_at dksX0_at_1 0 rfl rfl)
abbrev cX0_symbol : ByteArray := method_14_code
def yX0_symbol : MethodName := ⟨RX0, "symbol", "(LHaltingale;III[J)I"⟩
def dkwX0_symbol_1 : List UInt8 := [172]
abbrev dktX0_symbol_1 : List UInt8 := dkwX0_symbol_1 ++ []
def dkwX0_symbol_0 : List UInt8 := [25, 4, 3, 42, 27, 28, 29, 182, 0, 55, 133, 80, 167, 0, 11, 58, 5, 4, 172, 58, 5, 5, 172, 3]
abbrev dktX0_symbol_0 : List UInt8 := dkwX0_symbol_0 ++ dktX0_symbol_1
theorem dksX0_symbol_0 : cX0_symbol.data.toList.drop 0 = dktX0_symbol_0 := by decide +kernel
theorem dksX0_symbol_1 : cX0_symbol.data.toList.drop 24 = dktX0_symbol_1 := dk_seg dksX0_symbol_0 24 rfl rfl
theorem dX0_symbol_0 : decode cX0_symbol 0 = .ok (.aload 4, 2) := dk_25 4 (dk_at dksX0_symbol_0 0 rfl rfl)
theorem dX0_symbol_2 : decode cX0_symbol 2 = .ok (.iconst 0, 1) := dk_3 (dk_at dksX0_symbol_0 2 rfl rfl)
theorem dX0_symbol_3 : decode cX0_symbol 3 = .ok (.aload_n 0, 1) := dk_42 (dk_at dksX0_symbol_0 3 rfl rfl)
theorem dX0_symbol_4 : decode cX0_symbol 4 = .ok (.iload_n 1, 1) := dk_27 (dk_at dksX0_symbol_0 4 rfl rfl)
theorem dX0_symbol_5 : decode cX0_symbol 5 = .ok (.iload_n 2, 1) := dk_28 (dk_at dksX0_symbol_0 5 rfl rfl)
theorem dX0_symbol_6 : decode cX0_symbol 6 = .ok (.iload_n 3, 1) := dk_29 (dk_at dksX0_symbol_0 6 rfl rfl)
theorem dX0_symbol_7 : decode cX0_symbol 7 = .ok (.invokevirtual 55, 3) := dk_182 0 55 (dk_at dksX0_symbol_0 7 rfl rfl)
theorem dX0_symbol_10 : decode cX0_symbol 10 = .ok (.i2l, 1) := dk_133 (dk_at dksX0_symbol_0 10 rfl rfl)
theorem dX0_symbol_11 : decode cX0_symbol 11 = .ok (.lastore, 1) := dk_80 (dk_at dksX0_symbol_0 11 rfl rfl)
theorem dX0_symbol_12 : decode cX0_symbol 12 = .ok (.goto 11, 3) := dk_167 0 11 (dk_at dksX0_symbol_0 12 rfl rfl)
theorem dX0_symbol_15 : decode cX0_symbol 15 = .ok (.astore 5, 2) := dk_58 5 (dk_at dksX0_symbol_0 15 rfl rfl)
theorem dX0_symbol_17 : decode cX0_symbol 17 = .ok (.iconst 1, 1) := dk_4 (dk_at dksX0_symbol_0 17 rfl rfl)
theorem dX0_symbol_18 : decode cX0_symbol 18 = .ok (.ireturn, 1) := dk_172 (dk_at dksX0_symbol_0 18 rfl rfl)
theorem dX0_symbol_19 : decode cX0_symbol 19 = .ok (.astore 5, 2) := dk_58 5 (dk_at dksX0_symbol_0 19 rfl rfl)
theorem dX0_symbol_21 : decode cX0_symbol 21 = .ok (.iconst 2, 1) := dk_5 (dk_at dksX0_symbol_0 21 rfl rfl)
theorem dX0_symbol_22 : decode cX0_symbol 22 = .ok (.ireturn, 1) := dk_172 (dk_at dksX0_symbol_0 22 rfl rfl)
theorem dX0_symbol_23 : decode cX0_symbol 23 = .ok (.iconst 0, 1) := dk_3 (dk_at dksX0_symbol_0 23 rfl rfl)
theorem dX0_symbol_24 : decode cX0_symbol 24 = .ok (.ireturn, 1) := dk_172 (dk_at dksX0_symbol_1 0 rfl rfl)
abbrev cX0_lean : ByteArray := method_15_code
def yX0_lean : MethodName := ⟨RX0, "lean", "(LHaltingale;II[D)I"⟩
def dkwX0_lean_0 : List UInt8 := [45, 3, 42, 27, 28, 182, 0, 58, 82, 167, 0, 11, 58, 4, 4, 172, 58, 4, 5, 172, 3, 172]
abbrev dktX0_lean_0 : List UInt8 := dkwX0_lean_0 ++ []
theorem dksX0_lean_0 : cX0_lean.data.toList.drop 0 = dktX0_lean_0 := by decide +kernel
theorem dX0_lean_0 : decode cX0_lean 0 = .ok (.aload_n 3, 1) := dk_45 (dk_at dksX0_lean_0 0 rfl rfl)
theorem dX0_lean_1 : decode cX0_lean 1 = .ok (.iconst 0, 1) := dk_3 (dk_at dksX0_lean_0 1 rfl rfl)
theorem dX0_lean_2 : decode cX0_lean 2 = .ok (.aload_n 0, 1) := dk_42 (dk_at dksX0_lean_0 2 rfl rfl)
theorem dX0_lean_3 : decode cX0_lean 3 = .ok (.iload_n 1, 1) := dk_27 (dk_at dksX0_lean_0 3 rfl rfl)
theorem dX0_lean_4 : decode cX0_lean 4 = .ok (.iload_n 2, 1) := dk_28 (dk_at dksX0_lean_0 4 rfl rfl)
theorem dX0_lean_5 : decode cX0_lean 5 = .ok (.invokevirtual 58, 3) := dk_182 0 58 (dk_at dksX0_lean_0 5 rfl rfl)
theorem dX0_lean_8 : decode cX0_lean 8 = .ok (.dastore, 1) := dk_82 (dk_at dksX0_lean_0 8 rfl rfl)
theorem dX0_lean_9 : decode cX0_lean 9 = .ok (.goto 11, 3) := dk_167 0 11 (dk_at dksX0_lean_0 9 rfl rfl)
theorem dX0_lean_12 : decode cX0_lean 12 = .ok (.astore 4, 2) := dk_58 4 (dk_at dksX0_lean_0 12 rfl rfl)
theorem dX0_lean_14 : decode cX0_lean 14 = .ok (.iconst 1, 1) := dk_4 (dk_at dksX0_lean_0 14 rfl rfl)
theorem dX0_lean_15 : decode cX0_lean 15 = .ok (.ireturn, 1) := dk_172 (dk_at dksX0_lean_0 15 rfl rfl)
theorem dX0_lean_16 : decode cX0_lean 16 = .ok (.astore 4, 2) := dk_58 4 (dk_at dksX0_lean_0 16 rfl rfl)
theorem dX0_lean_18 : decode cX0_lean 18 = .ok (.iconst 2, 1) := dk_5 (dk_at dksX0_lean_0 18 rfl rfl)
theorem dX0_lean_19 : decode cX0_lean 19 = .ok (.ireturn, 1) := dk_172 (dk_at dksX0_lean_0 19 rfl rfl)
theorem dX0_lean_20 : decode cX0_lean 20 = .ok (.iconst 0, 1) := dk_3 (dk_at dksX0_lean_0 20 rfl rfl)
theorem dX0_lean_21 : decode cX0_lean 21 = .ok (.ireturn, 1) := dk_172 (dk_at dksX0_lean_0 21 rfl rfl)
abbrev cX0_meets : ByteArray := method_16_code
def yX0_meets : MethodName := ⟨RX0, "meets", "(LHaltingale;IIII[J)I"⟩
def dkwX0_meets_1 : List UInt8 := [172, 3, 172]
abbrev dktX0_meets_1 : List UInt8 := dkwX0_meets_1 ++ []
def dkwX0_meets_0 : List UInt8 := [25, 5, 3, 42, 27, 28, 29, 21, 4, 182, 0, 62, 133, 80, 167, 0, 11, 58, 6, 4, 172, 58, 6, 5]
abbrev dktX0_meets_0 : List UInt8 := dkwX0_meets_0 ++ dktX0_meets_1
theorem dksX0_meets_0 : cX0_meets.data.toList.drop 0 = dktX0_meets_0 := by decide +kernel
theorem dksX0_meets_1 : cX0_meets.data.toList.drop 24 = dktX0_meets_1 := dk_seg dksX0_meets_0 24 rfl rfl
theorem dX0_meets_0 : decode cX0_meets 0 = .ok (.aload 5, 2) := dk_25 5 (dk_at dksX0_meets_0 0 rfl rfl)
theorem dX0_meets_2 : decode cX0_meets 2 = .ok (.iconst 0, 1) := dk_3 (dk_at dksX0_meets_0 2 rfl rfl)
theorem dX0_meets_3 : decode cX0_meets 3 = .ok (.aload_n 0, 1) := dk_42 (dk_at dksX0_meets_0 3 rfl rfl)
theorem dX0_meets_4 : decode cX0_meets 4 = .ok (.iload_n 1, 1) := dk_27 (dk_at dksX0_meets_0 4 rfl rfl)
theorem dX0_meets_5 : decode cX0_meets 5 = .ok (.iload_n 2, 1) := dk_28 (dk_at dksX0_meets_0 5 rfl rfl)
theorem dX0_meets_6 : decode cX0_meets 6 = .ok (.iload_n 3, 1) := dk_29 (dk_at dksX0_meets_0 6 rfl rfl)
theorem dX0_meets_7 : decode cX0_meets 7 = .ok (.iload 4, 2) := dk_21 4 (dk_at dksX0_meets_0 7 rfl rfl)
theorem dX0_meets_9 : decode cX0_meets 9 = .ok (.invokevirtual 62, 3) := dk_182 0 62 (dk_at dksX0_meets_0 9 rfl rfl)
theorem dX0_meets_12 : decode cX0_meets 12 = .ok (.i2l, 1) := dk_133 (dk_at dksX0_meets_0 12 rfl rfl)
theorem dX0_meets_13 : decode cX0_meets 13 = .ok (.lastore, 1) := dk_80 (dk_at dksX0_meets_0 13 rfl rfl)
theorem dX0_meets_14 : decode cX0_meets 14 = .ok (.goto 11, 3) := dk_167 0 11 (dk_at dksX0_meets_0 14 rfl rfl)
theorem dX0_meets_17 : decode cX0_meets 17 = .ok (.astore 6, 2) := dk_58 6 (dk_at dksX0_meets_0 17 rfl rfl)
theorem dX0_meets_19 : decode cX0_meets 19 = .ok (.iconst 1, 1) := dk_4 (dk_at dksX0_meets_0 19 rfl rfl)
theorem dX0_meets_20 : decode cX0_meets 20 = .ok (.ireturn, 1) := dk_172 (dk_at dksX0_meets_0 20 rfl rfl)
theorem dX0_meets_21 : decode cX0_meets 21 = .ok (.astore 6, 2) := dk_58 6 (dk_at dksX0_meets_0 21 rfl rfl)
theorem dX0_meets_23 : decode cX0_meets 23 = .ok (.iconst 2, 1) := dk_5 (dk_at dksX0_meets_0 23 rfl rfl)
theorem dX0_meets_24 : decode cX0_meets 24 = .ok (.ireturn, 1) := dk_172 (dk_at dksX0_meets_1 0 rfl rfl)
theorem dX0_meets_25 : decode cX0_meets 25 = .ok (.iconst 0, 1) := dk_3 (dk_at dksX0_meets_1 1 rfl rfl)
theorem dX0_meets_26 : decode cX0_meets 26 = .ok (.ireturn, 1) := dk_172 (dk_at dksX0_meets_1 2 rfl rfl)
abbrev cX0_likeness : ByteArray := method_17_code
def yX0_likeness : MethodName := ⟨RX0, "likeness", "(LHaltingale;II[J)I"⟩
def dkwX0_likeness_0 : List UInt8 := [45, 3, 42, 27, 28, 182, 0, 65, 133, 80, 167, 0, 7, 58, 4, 4, 172, 3, 172]
abbrev dktX0_likeness_0 : List UInt8 := dkwX0_likeness_0 ++ []
theorem dksX0_likeness_0 : cX0_likeness.data.toList.drop 0 = dktX0_likeness_0 := by decide +kernel
theorem dX0_likeness_0 : decode cX0_likeness 0 = .ok (.aload_n 3, 1) := dk_45 (dk_at dksX0_likeness_0 0 rfl rfl)
theorem dX0_likeness_1 : decode cX0_likeness 1 = .ok (.iconst 0, 1) := dk_3 (dk_at dksX0_likeness_0 1 rfl rfl)
theorem dX0_likeness_2 : decode cX0_likeness 2 = .ok (.aload_n 0, 1) := dk_42 (dk_at dksX0_likeness_0 2 rfl rfl)
theorem dX0_likeness_3 : decode cX0_likeness 3 = .ok (.iload_n 1, 1) := dk_27 (dk_at dksX0_likeness_0 3 rfl rfl)
theorem dX0_likeness_4 : decode cX0_likeness 4 = .ok (.iload_n 2, 1) := dk_28 (dk_at dksX0_likeness_0 4 rfl rfl)
theorem dX0_likeness_5 : decode cX0_likeness 5 = .ok (.invokevirtual 65, 3) := dk_182 0 65 (dk_at dksX0_likeness_0 5 rfl rfl)
theorem dX0_likeness_8 : decode cX0_likeness 8 = .ok (.i2l, 1) := dk_133 (dk_at dksX0_likeness_0 8 rfl rfl)
theorem dX0_likeness_9 : decode cX0_likeness 9 = .ok (.lastore, 1) := dk_80 (dk_at dksX0_likeness_0 9 rfl rfl)
theorem dX0_likeness_10 : decode cX0_likeness 10 = .ok (.goto 7, 3) := dk_167 0 7 (dk_at dksX0_likeness_0 10 rfl rfl)
theorem dX0_likeness_13 : decode cX0_likeness 13 = .ok (.astore 4, 2) := dk_58 4 (dk_at dksX0_likeness_0 13 rfl rfl)
theorem dX0_likeness_15 : decode cX0_likeness 15 = .ok (.iconst 1, 1) := dk_4 (dk_at dksX0_likeness_0 15 rfl rfl)
theorem dX0_likeness_16 : decode cX0_likeness 16 = .ok (.ireturn, 1) := dk_172 (dk_at dksX0_likeness_0 16 rfl rfl)
theorem dX0_likeness_17 : decode cX0_likeness 17 = .ok (.iconst 0, 1) := dk_3 (dk_at dksX0_likeness_0 17 rfl rfl)
theorem dX0_likeness_18 : decode cX0_likeness 18 = .ok (.ireturn, 1) := dk_172 (dk_at dksX0_likeness_0 18 rfl rfl)
abbrev cX0_champion : ByteArray := method_18_code
def yX0_champion : MethodName := ⟨RX0, "champion", "(LHaltingale;I[J)I"⟩
def dkwX0_champion_0 : List UInt8 := [44, 3, 42, 27, 182, 0, 68, 133, 80, 167, 0, 6, 78, 4, 172, 3, 172]
abbrev dktX0_champion_0 : List UInt8 := dkwX0_champion_0 ++ []
theorem dksX0_champion_0 : cX0_champion.data.toList.drop 0 = dktX0_champion_0 := by decide +kernel
theorem dX0_champion_0 : decode cX0_champion 0 = .ok (.aload_n 2, 1) := dk_44 (dk_at dksX0_champion_0 0 rfl rfl)
theorem dX0_champion_1 : decode cX0_champion 1 = .ok (.iconst 0, 1) := dk_3 (dk_at dksX0_champion_0 1 rfl rfl)
theorem dX0_champion_2 : decode cX0_champion 2 = .ok (.aload_n 0, 1) := dk_42 (dk_at dksX0_champion_0 2 rfl rfl)
theorem dX0_champion_3 : decode cX0_champion 3 = .ok (.iload_n 1, 1) := dk_27 (dk_at dksX0_champion_0 3 rfl rfl)
theorem dX0_champion_4 : decode cX0_champion 4 = .ok (.invokevirtual 68, 3) := dk_182 0 68 (dk_at dksX0_champion_0 4 rfl rfl)
theorem dX0_champion_7 : decode cX0_champion 7 = .ok (.i2l, 1) := dk_133 (dk_at dksX0_champion_0 7 rfl rfl)
theorem dX0_champion_8 : decode cX0_champion 8 = .ok (.lastore, 1) := dk_80 (dk_at dksX0_champion_0 8 rfl rfl)
theorem dX0_champion_9 : decode cX0_champion 9 = .ok (.goto 6, 3) := dk_167 0 6 (dk_at dksX0_champion_0 9 rfl rfl)
theorem dX0_champion_12 : decode cX0_champion 12 = .ok (.astore_n 3, 1) := dk_78 (dk_at dksX0_champion_0 12 rfl rfl)
theorem dX0_champion_13 : decode cX0_champion 13 = .ok (.iconst 1, 1) := dk_4 (dk_at dksX0_champion_0 13 rfl rfl)
theorem dX0_champion_14 : decode cX0_champion 14 = .ok (.ireturn, 1) := dk_172 (dk_at dksX0_champion_0 14 rfl rfl)
theorem dX0_champion_15 : decode cX0_champion 15 = .ok (.iconst 0, 1) := dk_3 (dk_at dksX0_champion_0 15 rfl rfl)
theorem dX0_champion_16 : decode cX0_champion 16 = .ok (.ireturn, 1) := dk_172 (dk_at dksX0_champion_0 16 rfl rfl)
abbrev cX0_tagged : ByteArray := method_19_code
def yX0_tagged : MethodName := ⟨RX0, "tagged", "(LHaltingale;III[J)I"⟩
def dkwX0_tagged_1 : List UInt8 := [172]
abbrev dktX0_tagged_1 : List UInt8 := dkwX0_tagged_1 ++ []
def dkwX0_tagged_0 : List UInt8 := [25, 4, 3, 42, 27, 28, 29, 182, 0, 71, 133, 80, 167, 0, 11, 58, 5, 4, 172, 58, 5, 5, 172, 3]
abbrev dktX0_tagged_0 : List UInt8 := dkwX0_tagged_0 ++ dktX0_tagged_1
theorem dksX0_tagged_0 : cX0_tagged.data.toList.drop 0 = dktX0_tagged_0 := by decide +kernel
theorem dksX0_tagged_1 : cX0_tagged.data.toList.drop 24 = dktX0_tagged_1 := dk_seg dksX0_tagged_0 24 rfl rfl
theorem dX0_tagged_0 : decode cX0_tagged 0 = .ok (.aload 4, 2) := dk_25 4 (dk_at dksX0_tagged_0 0 rfl rfl)
theorem dX0_tagged_2 : decode cX0_tagged 2 = .ok (.iconst 0, 1) := dk_3 (dk_at dksX0_tagged_0 2 rfl rfl)
theorem dX0_tagged_3 : decode cX0_tagged 3 = .ok (.aload_n 0, 1) := dk_42 (dk_at dksX0_tagged_0 3 rfl rfl)
theorem dX0_tagged_4 : decode cX0_tagged 4 = .ok (.iload_n 1, 1) := dk_27 (dk_at dksX0_tagged_0 4 rfl rfl)
theorem dX0_tagged_5 : decode cX0_tagged 5 = .ok (.iload_n 2, 1) := dk_28 (dk_at dksX0_tagged_0 5 rfl rfl)
theorem dX0_tagged_6 : decode cX0_tagged 6 = .ok (.iload_n 3, 1) := dk_29 (dk_at dksX0_tagged_0 6 rfl rfl)
theorem dX0_tagged_7 : decode cX0_tagged 7 = .ok (.invokevirtual 71, 3) := dk_182 0 71 (dk_at dksX0_tagged_0 7 rfl rfl)
theorem dX0_tagged_10 : decode cX0_tagged 10 = .ok (.i2l, 1) := dk_133 (dk_at dksX0_tagged_0 10 rfl rfl)
theorem dX0_tagged_11 : decode cX0_tagged 11 = .ok (.lastore, 1) := dk_80 (dk_at dksX0_tagged_0 11 rfl rfl)
theorem dX0_tagged_12 : decode cX0_tagged 12 = .ok (.goto 11, 3) := dk_167 0 11 (dk_at dksX0_tagged_0 12 rfl rfl)
theorem dX0_tagged_15 : decode cX0_tagged 15 = .ok (.astore 5, 2) := dk_58 5 (dk_at dksX0_tagged_0 15 rfl rfl)
theorem dX0_tagged_17 : decode cX0_tagged 17 = .ok (.iconst 1, 1) := dk_4 (dk_at dksX0_tagged_0 17 rfl rfl)
theorem dX0_tagged_18 : decode cX0_tagged 18 = .ok (.ireturn, 1) := dk_172 (dk_at dksX0_tagged_0 18 rfl rfl)
theorem dX0_tagged_19 : decode cX0_tagged 19 = .ok (.astore 5, 2) := dk_58 5 (dk_at dksX0_tagged_0 19 rfl rfl)
theorem dX0_tagged_21 : decode cX0_tagged 21 = .ok (.iconst 2, 1) := dk_5 (dk_at dksX0_tagged_0 21 rfl rfl)
theorem dX0_tagged_22 : decode cX0_tagged 22 = .ok (.ireturn, 1) := dk_172 (dk_at dksX0_tagged_0 22 rfl rfl)
theorem dX0_tagged_23 : decode cX0_tagged 23 = .ok (.iconst 0, 1) := dk_3 (dk_at dksX0_tagged_0 23 rfl rfl)
theorem dX0_tagged_24 : decode cX0_tagged 24 = .ok (.ireturn, 1) := dk_172 (dk_at dksX0_tagged_1 0 rfl rfl)
abbrev cX0_many : ByteArray := method_20_code
def yX0_many : MethodName := ⟨RX0, "many", "(LHaltingale;I[J)I"⟩
def dkwX0_many_0 : List UInt8 := [44, 3, 42, 27, 182, 0, 74, 133, 80, 167, 0, 6, 78, 4, 172, 3, 172]
abbrev dktX0_many_0 : List UInt8 := dkwX0_many_0 ++ []
theorem dksX0_many_0 : cX0_many.data.toList.drop 0 = dktX0_many_0 := by decide +kernel
theorem dX0_many_0 : decode cX0_many 0 = .ok (.aload_n 2, 1) := dk_44 (dk_at dksX0_many_0 0 rfl rfl)
theorem dX0_many_1 : decode cX0_many 1 = .ok (.iconst 0, 1) := dk_3 (dk_at dksX0_many_0 1 rfl rfl)
theorem dX0_many_2 : decode cX0_many 2 = .ok (.aload_n 0, 1) := dk_42 (dk_at dksX0_many_0 2 rfl rfl)
theorem dX0_many_3 : decode cX0_many 3 = .ok (.iload_n 1, 1) := dk_27 (dk_at dksX0_many_0 3 rfl rfl)
theorem dX0_many_4 : decode cX0_many 4 = .ok (.invokevirtual 74, 3) := dk_182 0 74 (dk_at dksX0_many_0 4 rfl rfl)
theorem dX0_many_7 : decode cX0_many 7 = .ok (.i2l, 1) := dk_133 (dk_at dksX0_many_0 7 rfl rfl)
theorem dX0_many_8 : decode cX0_many 8 = .ok (.lastore, 1) := dk_80 (dk_at dksX0_many_0 8 rfl rfl)
theorem dX0_many_9 : decode cX0_many 9 = .ok (.goto 6, 3) := dk_167 0 6 (dk_at dksX0_many_0 9 rfl rfl)
theorem dX0_many_12 : decode cX0_many 12 = .ok (.astore_n 3, 1) := dk_78 (dk_at dksX0_many_0 12 rfl rfl)
theorem dX0_many_13 : decode cX0_many 13 = .ok (.iconst 1, 1) := dk_4 (dk_at dksX0_many_0 13 rfl rfl)
theorem dX0_many_14 : decode cX0_many 14 = .ok (.ireturn, 1) := dk_172 (dk_at dksX0_many_0 14 rfl rfl)
theorem dX0_many_15 : decode cX0_many 15 = .ok (.iconst 0, 1) := dk_3 (dk_at dksX0_many_0 15 rfl rfl)
theorem dX0_many_16 : decode cX0_many 16 = .ok (.ireturn, 1) := dk_172 (dk_at dksX0_many_0 16 rfl rfl)
abbrev cX0_cycleIn : ByteArray := method_21_code
def yX0_cycleIn : MethodName := ⟨RX0, "cycleIn", "(LHaltingale;II[J)I"⟩
def dkwX0_cycleIn_0 : List UInt8 := [45, 3, 42, 27, 28, 182, 0, 77, 133, 80, 167, 0, 11, 58, 4, 4, 172, 58, 4, 5, 172, 3, 172]
abbrev dktX0_cycleIn_0 : List UInt8 := dkwX0_cycleIn_0 ++ []
theorem dksX0_cycleIn_0 : cX0_cycleIn.data.toList.drop 0 = dktX0_cycleIn_0 := by decide +kernel
theorem dX0_cycleIn_0 : decode cX0_cycleIn 0 = .ok (.aload_n 3, 1) := dk_45 (dk_at dksX0_cycleIn_0 0 rfl rfl)
theorem dX0_cycleIn_1 : decode cX0_cycleIn 1 = .ok (.iconst 0, 1) := dk_3 (dk_at dksX0_cycleIn_0 1 rfl rfl)
theorem dX0_cycleIn_2 : decode cX0_cycleIn 2 = .ok (.aload_n 0, 1) := dk_42 (dk_at dksX0_cycleIn_0 2 rfl rfl)
theorem dX0_cycleIn_3 : decode cX0_cycleIn 3 = .ok (.iload_n 1, 1) := dk_27 (dk_at dksX0_cycleIn_0 3 rfl rfl)
theorem dX0_cycleIn_4 : decode cX0_cycleIn 4 = .ok (.iload_n 2, 1) := dk_28 (dk_at dksX0_cycleIn_0 4 rfl rfl)
theorem dX0_cycleIn_5 : decode cX0_cycleIn 5 = .ok (.invokevirtual 77, 3) := dk_182 0 77 (dk_at dksX0_cycleIn_0 5 rfl rfl)
theorem dX0_cycleIn_8 : decode cX0_cycleIn 8 = .ok (.i2l, 1) := dk_133 (dk_at dksX0_cycleIn_0 8 rfl rfl)
theorem dX0_cycleIn_9 : decode cX0_cycleIn 9 = .ok (.lastore, 1) := dk_80 (dk_at dksX0_cycleIn_0 9 rfl rfl)
theorem dX0_cycleIn_10 : decode cX0_cycleIn 10 = .ok (.goto 11, 3) := dk_167 0 11 (dk_at dksX0_cycleIn_0 10 rfl rfl)
theorem dX0_cycleIn_13 : decode cX0_cycleIn 13 = .ok (.astore 4, 2) := dk_58 4 (dk_at dksX0_cycleIn_0 13 rfl rfl)
theorem dX0_cycleIn_15 : decode cX0_cycleIn 15 = .ok (.iconst 1, 1) := dk_4 (dk_at dksX0_cycleIn_0 15 rfl rfl)
theorem dX0_cycleIn_16 : decode cX0_cycleIn 16 = .ok (.ireturn, 1) := dk_172 (dk_at dksX0_cycleIn_0 16 rfl rfl)
theorem dX0_cycleIn_17 : decode cX0_cycleIn 17 = .ok (.astore 4, 2) := dk_58 4 (dk_at dksX0_cycleIn_0 17 rfl rfl)
theorem dX0_cycleIn_19 : decode cX0_cycleIn 19 = .ok (.iconst 2, 1) := dk_5 (dk_at dksX0_cycleIn_0 19 rfl rfl)
theorem dX0_cycleIn_20 : decode cX0_cycleIn 20 = .ok (.ireturn, 1) := dk_172 (dk_at dksX0_cycleIn_0 20 rfl rfl)
theorem dX0_cycleIn_21 : decode cX0_cycleIn 21 = .ok (.iconst 0, 1) := dk_3 (dk_at dksX0_cycleIn_0 21 rfl rfl)
theorem dX0_cycleIn_22 : decode cX0_cycleIn 22 = .ok (.ireturn, 1) := dk_172 (dk_at dksX0_cycleIn_0 22 rfl rfl)
abbrev cX0_backIn : ByteArray := method_22_code
def yX0_backIn : MethodName := ⟨RX0, "backIn", "(LHaltingale;I[J)I"⟩
def dkwX0_backIn_0 : List UInt8 := [44, 3, 42, 27, 182, 0, 80, 133, 80, 167, 0, 6, 78, 4, 172, 3, 172]
abbrev dktX0_backIn_0 : List UInt8 := dkwX0_backIn_0 ++ []
theorem dksX0_backIn_0 : cX0_backIn.data.toList.drop 0 = dktX0_backIn_0 := by decide +kernel
theorem dX0_backIn_0 : decode cX0_backIn 0 = .ok (.aload_n 2, 1) := dk_44 (dk_at dksX0_backIn_0 0 rfl rfl)
theorem dX0_backIn_1 : decode cX0_backIn 1 = .ok (.iconst 0, 1) := dk_3 (dk_at dksX0_backIn_0 1 rfl rfl)
theorem dX0_backIn_2 : decode cX0_backIn 2 = .ok (.aload_n 0, 1) := dk_42 (dk_at dksX0_backIn_0 2 rfl rfl)
theorem dX0_backIn_3 : decode cX0_backIn 3 = .ok (.iload_n 1, 1) := dk_27 (dk_at dksX0_backIn_0 3 rfl rfl)
theorem dX0_backIn_4 : decode cX0_backIn 4 = .ok (.invokevirtual 80, 3) := dk_182 0 80 (dk_at dksX0_backIn_0 4 rfl rfl)
theorem dX0_backIn_7 : decode cX0_backIn 7 = .ok (.i2l, 1) := dk_133 (dk_at dksX0_backIn_0 7 rfl rfl)
theorem dX0_backIn_8 : decode cX0_backIn 8 = .ok (.lastore, 1) := dk_80 (dk_at dksX0_backIn_0 8 rfl rfl)
theorem dX0_backIn_9 : decode cX0_backIn 9 = .ok (.goto 6, 3) := dk_167 0 6 (dk_at dksX0_backIn_0 9 rfl rfl)
theorem dX0_backIn_12 : decode cX0_backIn 12 = .ok (.astore_n 3, 1) := dk_78 (dk_at dksX0_backIn_0 12 rfl rfl)
theorem dX0_backIn_13 : decode cX0_backIn 13 = .ok (.iconst 1, 1) := dk_4 (dk_at dksX0_backIn_0 13 rfl rfl)
theorem dX0_backIn_14 : decode cX0_backIn 14 = .ok (.ireturn, 1) := dk_172 (dk_at dksX0_backIn_0 14 rfl rfl)
theorem dX0_backIn_15 : decode cX0_backIn 15 = .ok (.iconst 0, 1) := dk_3 (dk_at dksX0_backIn_0 15 rfl rfl)
theorem dX0_backIn_16 : decode cX0_backIn 16 = .ok (.ireturn, 1) := dk_172 (dk_at dksX0_backIn_0 16 rfl rfl)
abbrev cX0_gramIn : ByteArray := method_23_code
def yX0_gramIn : MethodName := ⟨RX0, "gramIn", "(LHaltingale;I[J)I"⟩
def dkwX0_gramIn_0 : List UInt8 := [44, 3, 42, 27, 182, 0, 83, 133, 80, 167, 0, 6, 78, 4, 172, 3, 172]
abbrev dktX0_gramIn_0 : List UInt8 := dkwX0_gramIn_0 ++ []
theorem dksX0_gramIn_0 : cX0_gramIn.data.toList.drop 0 = dktX0_gramIn_0 := by decide +kernel
theorem dX0_gramIn_0 : decode cX0_gramIn 0 = .ok (.aload_n 2, 1) := dk_44 (dk_at dksX0_gramIn_0 0 rfl rfl)
theorem dX0_gramIn_1 : decode cX0_gramIn 1 = .ok (.iconst 0, 1) := dk_3 (dk_at dksX0_gramIn_0 1 rfl rfl)
theorem dX0_gramIn_2 : decode cX0_gramIn 2 = .ok (.aload_n 0, 1) := dk_42 (dk_at dksX0_gramIn_0 2 rfl rfl)
theorem dX0_gramIn_3 : decode cX0_gramIn 3 = .ok (.iload_n 1, 1) := dk_27 (dk_at dksX0_gramIn_0 3 rfl rfl)
theorem dX0_gramIn_4 : decode cX0_gramIn 4 = .ok (.invokevirtual 83, 3) := dk_182 0 83 (dk_at dksX0_gramIn_0 4 rfl rfl)
theorem dX0_gramIn_7 : decode cX0_gramIn 7 = .ok (.i2l, 1) := dk_133 (dk_at dksX0_gramIn_0 7 rfl rfl)
theorem dX0_gramIn_8 : decode cX0_gramIn 8 = .ok (.lastore, 1) := dk_80 (dk_at dksX0_gramIn_0 8 rfl rfl)
theorem dX0_gramIn_9 : decode cX0_gramIn 9 = .ok (.goto 6, 3) := dk_167 0 6 (dk_at dksX0_gramIn_0 9 rfl rfl)
theorem dX0_gramIn_12 : decode cX0_gramIn 12 = .ok (.astore_n 3, 1) := dk_78 (dk_at dksX0_gramIn_0 12 rfl rfl)
theorem dX0_gramIn_13 : decode cX0_gramIn 13 = .ok (.iconst 1, 1) := dk_4 (dk_at dksX0_gramIn_0 13 rfl rfl)
theorem dX0_gramIn_14 : decode cX0_gramIn 14 = .ok (.ireturn, 1) := dk_172 (dk_at dksX0_gramIn_0 14 rfl rfl)
theorem dX0_gramIn_15 : decode cX0_gramIn 15 = .ok (.iconst 0, 1) := dk_3 (dk_at dksX0_gramIn_0 15 rfl rfl)
theorem dX0_gramIn_16 : decode cX0_gramIn 16 = .ok (.ireturn, 1) := dk_172 (dk_at dksX0_gramIn_0 16 rfl rfl)
theorem q24 : (Jvm.Cond.initialized "HaltingaleLaw") ∈ lw_all := lw_g (lw_at lw_m1 0 rfl) rfl
theorem q66 : (Jvm.Cond.classLink "HaltingaleLaw" (8 : Nat) "Haltingale") ∈ lw_all := lw_g (lw_at lw_m1 42 rfl) rfl
theorem q68 : (Jvm.Cond.methodLink "HaltingaleLaw" (86 : Nat) ({ cls := "Haltingale", name := "<init>", desc := "()V" } : Jvm.MethodName)) ∈ lw_all := lw_g (lw_at lw_m1 44 rfl) rfl
theorem q129 : (Jvm.Cond.methodLink "HaltingaleLaw" (156 : Nat) ({ cls := "Haltingale", name := "meanStop", desc := "()D" } : Jvm.MethodName)) ∈ lw_all := lw_g (lw_at lw_m1 105 rfl) rfl
theorem q183 : (Jvm.Cond.methodLink "HaltingaleLaw" (170 : Nat) ({ cls := "Haltingale", name := "digest", desc := "()J" } : Jvm.MethodName)) ∈ lw_all := lw_g (lw_at lw_m1 159 rfl) rfl
theorem q666 : (Jvm.Cond.methodLink "HaltingaleLaw" (90 : Nat) ({ cls := "HaltingaleLaw", name := "machine", desc := "(LHaltingale;I[J)I" } : Jvm.MethodName)) ∈ lw_all := lw_g (lw_at lw_m3 162 rfl) rfl
theorem q667 : (Jvm.Cond.static ({ cls := "HaltingaleLaw", name := "machine", desc := "(LHaltingale;I[J)I" } : Jvm.MethodName)) ∈ lw_all := lw_g (lw_at lw_m3 163 rfl) rfl
theorem q668 : (Jvm.Cond.codeWith ({ cls := "HaltingaleLaw", name := "machine", desc := "(LHaltingale;I[J)I" } : Jvm.MethodName) method_3_code (4 : Nat) (Option.some Jvm.ClassFile.FieldType.int) [((0 : Nat), (9 : Nat), (12 : Nat), (13 : Nat)), ((0 : Nat), (9 : Nat), (15 : Nat), (15 : Nat))]) ∈ lw_all := lw_g (lw_at lw_m3 164 rfl) rfl
theorem q669 : (Jvm.Cond.classLink "HaltingaleLaw" (13 : Nat) "java/lang/IllegalArgumentException") ∈ lw_all := lw_g (lw_at lw_m3 165 rfl) rfl
theorem q670 : (Jvm.Cond.classLink "HaltingaleLaw" (15 : Nat) "java/lang/IllegalStateException") ∈ lw_all := lw_g (lw_at lw_m3 166 rfl) rfl
theorem q671 : (Jvm.Cond.methodLink "HaltingaleLaw" (7 : Nat) ({ cls := "Haltingale", name := "machine", desc := "(I)I" } : Jvm.MethodName)) ∈ lw_all := lw_g (lw_at lw_m3 167 rfl) rfl
theorem q736 : (Jvm.Cond.methodLink "HaltingaleLaw" (100 : Nat) ({ cls := "HaltingaleLaw", name := "tell", desc := "(LHaltingale;IIIIII[J)I" } : Jvm.MethodName)) ∈ lw_all := lw_g (lw_at lw_m3 232 rfl) rfl
theorem q737 : (Jvm.Cond.static ({ cls := "HaltingaleLaw", name := "tell", desc := "(LHaltingale;IIIIII[J)I" } : Jvm.MethodName)) ∈ lw_all := lw_g (lw_at lw_m3 233 rfl) rfl
theorem q738 : (Jvm.Cond.codeWith ({ cls := "HaltingaleLaw", name := "tell", desc := "(LHaltingale;IIIIII[J)I" } : Jvm.MethodName) method_4_code (9 : Nat) (Option.some Jvm.ClassFile.FieldType.int) [((0 : Nat), (18 : Nat), (21 : Nat), (21 : Nat)), ((0 : Nat), (18 : Nat), (25 : Nat), (13 : Nat)), ((0 : Nat), (18 : Nat), (29 : Nat), (15 : Nat))]) ∈ lw_all := lw_g (lw_at lw_m3 234 rfl) rfl
theorem q739 : (Jvm.Cond.classLink "HaltingaleLaw" (21 : Nat) "java/lang/IndexOutOfBoundsException") ∈ lw_all := lw_g (lw_at lw_m3 235 rfl) rfl
theorem q772 : (Jvm.Cond.methodLink "HaltingaleLaw" (17 : Nat) ({ cls := "Haltingale", name := "tell", desc := "(IIIIII)I" } : Jvm.MethodName)) ∈ lw_all := lw_g (lw_at lw_m4 28 rfl) rfl
theorem q886 : (Jvm.Cond.methodLink "HaltingaleLaw" (104 : Nat) ({ cls := "HaltingaleLaw", name := "amend", desc := "(LHaltingale;IIIIII[J)I" } : Jvm.MethodName)) ∈ lw_all := lw_g (lw_at lw_m4 142 rfl) rfl
theorem q887 : (Jvm.Cond.static ({ cls := "HaltingaleLaw", name := "amend", desc := "(LHaltingale;IIIIII[J)I" } : Jvm.MethodName)) ∈ lw_all := lw_g (lw_at lw_m4 143 rfl) rfl
theorem q888 : (Jvm.Cond.codeWith ({ cls := "HaltingaleLaw", name := "amend", desc := "(LHaltingale;IIIIII[J)I" } : Jvm.MethodName) method_5_code (9 : Nat) (Option.some Jvm.ClassFile.FieldType.int) [((0 : Nat), (25 : Nat), (28 : Nat), (21 : Nat)), ((0 : Nat), (25 : Nat), (32 : Nat), (13 : Nat)), ((0 : Nat), (25 : Nat), (36 : Nat), (15 : Nat))]) ∈ lw_all := lw_g (lw_at lw_m4 144 rfl) rfl
theorem q889 : (Jvm.Cond.methodLink "HaltingaleLaw" (23 : Nat) ({ cls := "Haltingale", name := "amend", desc := "(IIIIII)Z" } : Jvm.MethodName)) ∈ lw_all := lw_g (lw_at lw_m4 145 rfl) rfl
theorem q893 : (Jvm.Cond.methodLink "HaltingaleLaw" (107 : Nat) ({ cls := "HaltingaleLaw", name := "child", desc := "(LHaltingale;II[J)I" } : Jvm.MethodName)) ∈ lw_all := lw_g (lw_at lw_m4 149 rfl) rfl
theorem q894 : (Jvm.Cond.static ({ cls := "HaltingaleLaw", name := "child", desc := "(LHaltingale;II[J)I" } : Jvm.MethodName)) ∈ lw_all := lw_g (lw_at lw_m4 150 rfl) rfl
theorem q895 : (Jvm.Cond.codeWith ({ cls := "HaltingaleLaw", name := "child", desc := "(LHaltingale;II[J)I" } : Jvm.MethodName) method_6_code (5 : Nat) (Option.some Jvm.ClassFile.FieldType.int) [((0 : Nat), (10 : Nat), (13 : Nat), (21 : Nat)), ((0 : Nat), (10 : Nat), (17 : Nat), (13 : Nat)), ((0 : Nat), (10 : Nat), (21 : Nat), (15 : Nat))]) ∈ lw_all := lw_g (lw_at lw_m4 151 rfl) rfl
theorem q896 : (Jvm.Cond.methodLink "HaltingaleLaw" (27 : Nat) ({ cls := "Haltingale", name := "child", desc := "(II)I" } : Jvm.MethodName)) ∈ lw_all := lw_g (lw_at lw_m4 152 rfl) rfl
theorem q907 : (Jvm.Cond.methodLink "HaltingaleLaw" (111 : Nat) ({ cls := "HaltingaleLaw", name := "tag", desc := "(LHaltingale;III[J)I" } : Jvm.MethodName)) ∈ lw_all := lw_g (lw_at lw_m4 163 rfl) rfl
theorem q908 : (Jvm.Cond.static ({ cls := "HaltingaleLaw", name := "tag", desc := "(LHaltingale;III[J)I" } : Jvm.MethodName)) ∈ lw_all := lw_g (lw_at lw_m4 164 rfl) rfl
theorem q909 : (Jvm.Cond.codeWith ({ cls := "HaltingaleLaw", name := "tag", desc := "(LHaltingale;III[J)I" } : Jvm.MethodName) method_7_code (6 : Nat) (Option.some Jvm.ClassFile.FieldType.int) [((0 : Nat), (12 : Nat), (15 : Nat), (13 : Nat)), ((0 : Nat), (12 : Nat), (19 : Nat), (15 : Nat))]) ∈ lw_all := lw_g (lw_at lw_m4 165 rfl) rfl
theorem q910 : (Jvm.Cond.methodLink "HaltingaleLaw" (31 : Nat) ({ cls := "Haltingale", name := "tag", desc := "(III)I" } : Jvm.MethodName)) ∈ lw_all := lw_g (lw_at lw_m4 166 rfl) rfl
theorem q925 : (Jvm.Cond.methodLink "HaltingaleLaw" (115 : Nat) ({ cls := "HaltingaleLaw", name := "prove", desc := "(LHaltingale;IIII[J)I" } : Jvm.MethodName)) ∈ lw_all := lw_g (lw_at lw_m4 181 rfl) rfl
theorem q926 : (Jvm.Cond.static ({ cls := "HaltingaleLaw", name := "prove", desc := "(LHaltingale;IIII[J)I" } : Jvm.MethodName)) ∈ lw_all := lw_g (lw_at lw_m4 182 rfl) rfl
theorem q927 : (Jvm.Cond.codeWith ({ cls := "HaltingaleLaw", name := "prove", desc := "(LHaltingale;IIII[J)I" } : Jvm.MethodName) method_8_code (7 : Nat) (Option.some Jvm.ClassFile.FieldType.int) [((0 : Nat), (21 : Nat), (24 : Nat), (21 : Nat)), ((0 : Nat), (21 : Nat), (28 : Nat), (13 : Nat)), ((0 : Nat), (21 : Nat), (32 : Nat), (15 : Nat))]) ∈ lw_all := lw_g (lw_at lw_m4 183 rfl) rfl
theorem q928 : (Jvm.Cond.methodLink "HaltingaleLaw" (35 : Nat) ({ cls := "Haltingale", name := "prove", desc := "(IIII)Z" } : Jvm.MethodName)) ∈ lw_all := lw_g (lw_at lw_m4 184 rfl) rfl
theorem q1073 : (Jvm.Cond.methodLink "HaltingaleLaw" (119 : Nat) ({ cls := "HaltingaleLaw", name := "doubt", desc := "(LHaltingale;I[J)I" } : Jvm.MethodName)) ∈ lw_all := lw_g (lw_at lw_m5 89 rfl) rfl
theorem q1074 : (Jvm.Cond.static ({ cls := "HaltingaleLaw", name := "doubt", desc := "(LHaltingale;I[J)I" } : Jvm.MethodName)) ∈ lw_all := lw_g (lw_at lw_m5 90 rfl) rfl
theorem q1075 : (Jvm.Cond.codeWith ({ cls := "HaltingaleLaw", name := "doubt", desc := "(LHaltingale;I[J)I" } : Jvm.MethodName) method_9_code (4 : Nat) (Option.some Jvm.ClassFile.FieldType.int) [((0 : Nat), (9 : Nat), (12 : Nat), (13 : Nat))]) ∈ lw_all := lw_g (lw_at lw_m5 91 rfl) rfl
theorem q1076 : (Jvm.Cond.methodLink "HaltingaleLaw" (39 : Nat) ({ cls := "Haltingale", name := "doubt", desc := "(I)I" } : Jvm.MethodName)) ∈ lw_all := lw_g (lw_at lw_m5 92 rfl) rfl
theorem q1080 : (Jvm.Cond.methodLink "HaltingaleLaw" (122 : Nat) ({ cls := "HaltingaleLaw", name := "decide", desc := "(LHaltingale;I[J)I" } : Jvm.MethodName)) ∈ lw_all := lw_g (lw_at lw_m5 96 rfl) rfl
theorem q1081 : (Jvm.Cond.static ({ cls := "HaltingaleLaw", name := "decide", desc := "(LHaltingale;I[J)I" } : Jvm.MethodName)) ∈ lw_all := lw_g (lw_at lw_m5 97 rfl) rfl
theorem q1082 : (Jvm.Cond.codeWith ({ cls := "HaltingaleLaw", name := "decide", desc := "(LHaltingale;I[J)I" } : Jvm.MethodName) method_10_code (4 : Nat) (Option.some Jvm.ClassFile.FieldType.int) [((0 : Nat), (9 : Nat), (12 : Nat), (21 : Nat)), ((0 : Nat), (9 : Nat), (15 : Nat), (15 : Nat))]) ∈ lw_all := lw_g (lw_at lw_m5 98 rfl) rfl
theorem q1083 : (Jvm.Cond.methodLink "HaltingaleLaw" (42 : Nat) ({ cls := "Haltingale", name := "decide", desc := "(I)I" } : Jvm.MethodName)) ∈ lw_all := lw_g (lw_at lw_m5 99 rfl) rfl
theorem q1090 : (Jvm.Cond.methodLink "HaltingaleLaw" (125 : Nat) ({ cls := "HaltingaleLaw", name := "cell", desc := "(LHaltingale;IIII[J)I" } : Jvm.MethodName)) ∈ lw_all := lw_g (lw_at lw_m5 106 rfl) rfl
theorem q1091 : (Jvm.Cond.static ({ cls := "HaltingaleLaw", name := "cell", desc := "(LHaltingale;IIII[J)I" } : Jvm.MethodName)) ∈ lw_all := lw_g (lw_at lw_m5 107 rfl) rfl
theorem q1092 : (Jvm.Cond.codeWith ({ cls := "HaltingaleLaw", name := "cell", desc := "(LHaltingale;IIII[J)I" } : Jvm.MethodName) method_11_code (7 : Nat) (Option.some Jvm.ClassFile.FieldType.int) [((0 : Nat), (14 : Nat), (17 : Nat), (21 : Nat)), ((0 : Nat), (14 : Nat), (21 : Nat), (13 : Nat))]) ∈ lw_all := lw_g (lw_at lw_m5 108 rfl) rfl
theorem q1093 : (Jvm.Cond.methodLink "HaltingaleLaw" (45 : Nat) ({ cls := "Haltingale", name := "cell", desc := "(IIII)I" } : Jvm.MethodName)) ∈ lw_all := lw_g (lw_at lw_m5 109 rfl) rfl
theorem q1097 : (Jvm.Cond.methodLink "HaltingaleLaw" (128 : Nat) ({ cls := "HaltingaleLaw", name := "ofMachine", desc := "(LHaltingale;II[J)I" } : Jvm.MethodName)) ∈ lw_all := lw_g (lw_at lw_m5 113 rfl) rfl
theorem q1098 : (Jvm.Cond.static ({ cls := "HaltingaleLaw", name := "ofMachine", desc := "(LHaltingale;II[J)I" } : Jvm.MethodName)) ∈ lw_all := lw_g (lw_at lw_m5 114 rfl) rfl
theorem q1099 : (Jvm.Cond.codeWith ({ cls := "HaltingaleLaw", name := "ofMachine", desc := "(LHaltingale;II[J)I" } : Jvm.MethodName) method_12_code (5 : Nat) (Option.some Jvm.ClassFile.FieldType.int) [((0 : Nat), (10 : Nat), (13 : Nat), (21 : Nat)), ((0 : Nat), (10 : Nat), (17 : Nat), (13 : Nat))]) ∈ lw_all := lw_g (lw_at lw_m5 115 rfl) rfl
theorem q1100 : (Jvm.Cond.methodLink "HaltingaleLaw" (49 : Nat) ({ cls := "Haltingale", name := "ofMachine", desc := "(II)I" } : Jvm.MethodName)) ∈ lw_all := lw_g (lw_at lw_m5 116 rfl) rfl
theorem q1104 : (Jvm.Cond.methodLink "HaltingaleLaw" (131 : Nat) ({ cls := "HaltingaleLaw", name := "at", desc := "(LHaltingale;III[J)I" } : Jvm.MethodName)) ∈ lw_all := lw_g (lw_at lw_m5 120 rfl) rfl
theorem q1105 : (Jvm.Cond.static ({ cls := "HaltingaleLaw", name := "at", desc := "(LHaltingale;III[J)I" } : Jvm.MethodName)) ∈ lw_all := lw_g (lw_at lw_m5 121 rfl) rfl
theorem q1106 : (Jvm.Cond.codeWith ({ cls := "HaltingaleLaw", name := "at", desc := "(LHaltingale;III[J)I" } : Jvm.MethodName) method_13_code (6 : Nat) (Option.some Jvm.ClassFile.FieldType.int) [((0 : Nat), (12 : Nat), (15 : Nat), (21 : Nat)), ((0 : Nat), (12 : Nat), (19 : Nat), (13 : Nat))]) ∈ lw_all := lw_g (lw_at lw_m5 122 rfl) rfl
theorem q1107 : (Jvm.Cond.methodLink "HaltingaleLaw" (52 : Nat) ({ cls := "Haltingale", name := "at", desc := "(III)I" } : Jvm.MethodName)) ∈ lw_all := lw_g (lw_at lw_m5 123 rfl) rfl
theorem q1111 : (Jvm.Cond.methodLink "HaltingaleLaw" (134 : Nat) ({ cls := "HaltingaleLaw", name := "symbol", desc := "(LHaltingale;III[J)I" } : Jvm.MethodName)) ∈ lw_all := lw_g (lw_at lw_m5 127 rfl) rfl
theorem q1112 : (Jvm.Cond.static ({ cls := "HaltingaleLaw", name := "symbol", desc := "(LHaltingale;III[J)I" } : Jvm.MethodName)) ∈ lw_all := lw_g (lw_at lw_m5 128 rfl) rfl
theorem q1113 : (Jvm.Cond.codeWith ({ cls := "HaltingaleLaw", name := "symbol", desc := "(LHaltingale;III[J)I" } : Jvm.MethodName) method_14_code (6 : Nat) (Option.some Jvm.ClassFile.FieldType.int) [((0 : Nat), (12 : Nat), (15 : Nat), (21 : Nat)), ((0 : Nat), (12 : Nat), (19 : Nat), (13 : Nat))]) ∈ lw_all := lw_g (lw_at lw_m5 129 rfl) rfl
theorem q1114 : (Jvm.Cond.methodLink "HaltingaleLaw" (55 : Nat) ({ cls := "Haltingale", name := "symbol", desc := "(III)I" } : Jvm.MethodName)) ∈ lw_all := lw_g (lw_at lw_m5 130 rfl) rfl
theorem q1118 : (Jvm.Cond.methodLink "HaltingaleLaw" (137 : Nat) ({ cls := "HaltingaleLaw", name := "lean", desc := "(LHaltingale;II[D)I" } : Jvm.MethodName)) ∈ lw_all := lw_g (lw_at lw_m5 134 rfl) rfl
theorem q1119 : (Jvm.Cond.static ({ cls := "HaltingaleLaw", name := "lean", desc := "(LHaltingale;II[D)I" } : Jvm.MethodName)) ∈ lw_all := lw_g (lw_at lw_m5 135 rfl) rfl
theorem q1120 : (Jvm.Cond.codeWith ({ cls := "HaltingaleLaw", name := "lean", desc := "(LHaltingale;II[D)I" } : Jvm.MethodName) method_15_code (5 : Nat) (Option.some Jvm.ClassFile.FieldType.int) [((0 : Nat), (9 : Nat), (12 : Nat), (21 : Nat)), ((0 : Nat), (9 : Nat), (16 : Nat), (13 : Nat))]) ∈ lw_all := lw_g (lw_at lw_m5 136 rfl) rfl
theorem q1121 : (Jvm.Cond.methodLink "HaltingaleLaw" (58 : Nat) ({ cls := "Haltingale", name := "lean", desc := "(II)D" } : Jvm.MethodName)) ∈ lw_all := lw_g (lw_at lw_m5 137 rfl) rfl
theorem q1160 : (Jvm.Cond.methodLink "HaltingaleLaw" (141 : Nat) ({ cls := "HaltingaleLaw", name := "meets", desc := "(LHaltingale;IIII[J)I" } : Jvm.MethodName)) ∈ lw_all := lw_g (lw_at lw_m5 176 rfl) rfl
theorem q1161 : (Jvm.Cond.static ({ cls := "HaltingaleLaw", name := "meets", desc := "(LHaltingale;IIII[J)I" } : Jvm.MethodName)) ∈ lw_all := lw_g (lw_at lw_m5 177 rfl) rfl
theorem q1162 : (Jvm.Cond.codeWith ({ cls := "HaltingaleLaw", name := "meets", desc := "(LHaltingale;IIII[J)I" } : Jvm.MethodName) method_16_code (7 : Nat) (Option.some Jvm.ClassFile.FieldType.int) [((0 : Nat), (14 : Nat), (17 : Nat), (21 : Nat)), ((0 : Nat), (14 : Nat), (21 : Nat), (13 : Nat))]) ∈ lw_all := lw_g (lw_at lw_m5 178 rfl) rfl
theorem q1163 : (Jvm.Cond.methodLink "HaltingaleLaw" (62 : Nat) ({ cls := "Haltingale", name := "meets", desc := "(IIII)I" } : Jvm.MethodName)) ∈ lw_all := lw_g (lw_at lw_m5 179 rfl) rfl
theorem q1167 : (Jvm.Cond.methodLink "HaltingaleLaw" (144 : Nat) ({ cls := "HaltingaleLaw", name := "likeness", desc := "(LHaltingale;II[J)I" } : Jvm.MethodName)) ∈ lw_all := lw_g (lw_at lw_m5 183 rfl) rfl
theorem q1168 : (Jvm.Cond.static ({ cls := "HaltingaleLaw", name := "likeness", desc := "(LHaltingale;II[J)I" } : Jvm.MethodName)) ∈ lw_all := lw_g (lw_at lw_m5 184 rfl) rfl
theorem q1169 : (Jvm.Cond.codeWith ({ cls := "HaltingaleLaw", name := "likeness", desc := "(LHaltingale;II[J)I" } : Jvm.MethodName) method_17_code (5 : Nat) (Option.some Jvm.ClassFile.FieldType.int) [((0 : Nat), (10 : Nat), (13 : Nat), (21 : Nat))]) ∈ lw_all := lw_g (lw_at lw_m5 185 rfl) rfl
theorem q1170 : (Jvm.Cond.methodLink "HaltingaleLaw" (65 : Nat) ({ cls := "Haltingale", name := "likeness", desc := "(II)I" } : Jvm.MethodName)) ∈ lw_all := lw_g (lw_at lw_m5 186 rfl) rfl
theorem q1188 : (Jvm.Cond.methodLink "HaltingaleLaw" (147 : Nat) ({ cls := "HaltingaleLaw", name := "champion", desc := "(LHaltingale;I[J)I" } : Jvm.MethodName)) ∈ lw_all := lw_g (lw_at lw_m5 204 rfl) rfl
theorem q1189 : (Jvm.Cond.static ({ cls := "HaltingaleLaw", name := "champion", desc := "(LHaltingale;I[J)I" } : Jvm.MethodName)) ∈ lw_all := lw_g (lw_at lw_m5 205 rfl) rfl
theorem q1190 : (Jvm.Cond.codeWith ({ cls := "HaltingaleLaw", name := "champion", desc := "(LHaltingale;I[J)I" } : Jvm.MethodName) method_18_code (4 : Nat) (Option.some Jvm.ClassFile.FieldType.int) [((0 : Nat), (9 : Nat), (12 : Nat), (13 : Nat))]) ∈ lw_all := lw_g (lw_at lw_m5 206 rfl) rfl
theorem q1191 : (Jvm.Cond.methodLink "HaltingaleLaw" (68 : Nat) ({ cls := "Haltingale", name := "champion", desc := "(I)I" } : Jvm.MethodName)) ∈ lw_all := lw_g (lw_at lw_m5 207 rfl) rfl
theorem q1195 : (Jvm.Cond.methodLink "HaltingaleLaw" (150 : Nat) ({ cls := "HaltingaleLaw", name := "tagged", desc := "(LHaltingale;III[J)I" } : Jvm.MethodName)) ∈ lw_all := lw_g (lw_at lw_m5 211 rfl) rfl
theorem q1196 : (Jvm.Cond.static ({ cls := "HaltingaleLaw", name := "tagged", desc := "(LHaltingale;III[J)I" } : Jvm.MethodName)) ∈ lw_all := lw_g (lw_at lw_m5 212 rfl) rfl
theorem q1197 : (Jvm.Cond.codeWith ({ cls := "HaltingaleLaw", name := "tagged", desc := "(LHaltingale;III[J)I" } : Jvm.MethodName) method_19_code (6 : Nat) (Option.some Jvm.ClassFile.FieldType.int) [((0 : Nat), (12 : Nat), (15 : Nat), (21 : Nat)), ((0 : Nat), (12 : Nat), (19 : Nat), (13 : Nat))]) ∈ lw_all := lw_g (lw_at lw_m5 213 rfl) rfl
theorem q1198 : (Jvm.Cond.methodLink "HaltingaleLaw" (71 : Nat) ({ cls := "Haltingale", name := "tagged", desc := "(III)I" } : Jvm.MethodName)) ∈ lw_all := lw_g (lw_at lw_m5 214 rfl) rfl
theorem q1202 : (Jvm.Cond.methodLink "HaltingaleLaw" (153 : Nat) ({ cls := "HaltingaleLaw", name := "many", desc := "(LHaltingale;I[J)I" } : Jvm.MethodName)) ∈ lw_all := lw_g (lw_at lw_m5 218 rfl) rfl
theorem q1203 : (Jvm.Cond.static ({ cls := "HaltingaleLaw", name := "many", desc := "(LHaltingale;I[J)I" } : Jvm.MethodName)) ∈ lw_all := lw_g (lw_at lw_m5 219 rfl) rfl
theorem q1204 : (Jvm.Cond.codeWith ({ cls := "HaltingaleLaw", name := "many", desc := "(LHaltingale;I[J)I" } : Jvm.MethodName) method_20_code (4 : Nat) (Option.some Jvm.ClassFile.FieldType.int) [((0 : Nat), (9 : Nat), (12 : Nat), (13 : Nat))]) ∈ lw_all := lw_g (lw_at lw_m5 220 rfl) rfl
theorem q1205 : (Jvm.Cond.methodLink "HaltingaleLaw" (74 : Nat) ({ cls := "Haltingale", name := "many", desc := "(I)I" } : Jvm.MethodName)) ∈ lw_all := lw_g (lw_at lw_m5 221 rfl) rfl
theorem q1209 : (Jvm.Cond.methodLink "HaltingaleLaw" (161 : Nat) ({ cls := "HaltingaleLaw", name := "cycleIn", desc := "(LHaltingale;II[J)I" } : Jvm.MethodName)) ∈ lw_all := lw_g (lw_at lw_m5 225 rfl) rfl
theorem q1210 : (Jvm.Cond.static ({ cls := "HaltingaleLaw", name := "cycleIn", desc := "(LHaltingale;II[J)I" } : Jvm.MethodName)) ∈ lw_all := lw_g (lw_at lw_m5 226 rfl) rfl
theorem q1211 : (Jvm.Cond.codeWith ({ cls := "HaltingaleLaw", name := "cycleIn", desc := "(LHaltingale;II[J)I" } : Jvm.MethodName) method_21_code (5 : Nat) (Option.some Jvm.ClassFile.FieldType.int) [((0 : Nat), (10 : Nat), (13 : Nat), (21 : Nat)), ((0 : Nat), (10 : Nat), (17 : Nat), (13 : Nat))]) ∈ lw_all := lw_g (lw_at lw_m5 227 rfl) rfl
theorem q1212 : (Jvm.Cond.methodLink "HaltingaleLaw" (77 : Nat) ({ cls := "Haltingale", name := "cycleIn", desc := "(II)I" } : Jvm.MethodName)) ∈ lw_all := lw_g (lw_at lw_m5 228 rfl) rfl
theorem q1216 : (Jvm.Cond.methodLink "HaltingaleLaw" (164 : Nat) ({ cls := "HaltingaleLaw", name := "backIn", desc := "(LHaltingale;I[J)I" } : Jvm.MethodName)) ∈ lw_all := lw_g (lw_at lw_m5 232 rfl) rfl
theorem q1217 : (Jvm.Cond.static ({ cls := "HaltingaleLaw", name := "backIn", desc := "(LHaltingale;I[J)I" } : Jvm.MethodName)) ∈ lw_all := lw_g (lw_at lw_m5 233 rfl) rfl
theorem q1218 : (Jvm.Cond.codeWith ({ cls := "HaltingaleLaw", name := "backIn", desc := "(LHaltingale;I[J)I" } : Jvm.MethodName) method_22_code (4 : Nat) (Option.some Jvm.ClassFile.FieldType.int) [((0 : Nat), (9 : Nat), (12 : Nat), (21 : Nat))]) ∈ lw_all := lw_g (lw_at lw_m5 234 rfl) rfl
theorem q1219 : (Jvm.Cond.methodLink "HaltingaleLaw" (80 : Nat) ({ cls := "Haltingale", name := "backIn", desc := "(I)I" } : Jvm.MethodName)) ∈ lw_all := lw_g (lw_at lw_m5 235 rfl) rfl
theorem q1223 : (Jvm.Cond.methodLink "HaltingaleLaw" (167 : Nat) ({ cls := "HaltingaleLaw", name := "gramIn", desc := "(LHaltingale;I[J)I" } : Jvm.MethodName)) ∈ lw_all := lw_g (lw_at lw_m5 239 rfl) rfl
theorem q1224 : (Jvm.Cond.static ({ cls := "HaltingaleLaw", name := "gramIn", desc := "(LHaltingale;I[J)I" } : Jvm.MethodName)) ∈ lw_all := lw_g (lw_at lw_m6 0 rfl) rfl
theorem q1225 : (Jvm.Cond.codeWith ({ cls := "HaltingaleLaw", name := "gramIn", desc := "(LHaltingale;I[J)I" } : Jvm.MethodName) method_23_code (4 : Nat) (Option.some Jvm.ClassFile.FieldType.int) [((0 : Nat), (9 : Nat), (12 : Nat), (21 : Nat))]) ∈ lw_all := lw_g (lw_at lw_m6 1 rfl) rfl
theorem q1226 : (Jvm.Cond.methodLink "HaltingaleLaw" (83 : Nat) ({ cls := "Haltingale", name := "gramIn", desc := "(I)I" } : Jvm.MethodName)) ∈ lw_all := lw_g (lw_at lw_m6 2 rfl) rfl
theorem q1230 : (Jvm.Cond.classLink "HaltingaleLaw" (87 : Nat) "HaltingaleModel") ∈ lw_all := lw_g (lw_at lw_m6 6 rfl) rfl
theorem q1232 : (Jvm.Cond.methodLink "HaltingaleLaw" (89 : Nat) ({ cls := "HaltingaleModel", name := "<init>", desc := "()V" } : Jvm.MethodName)) ∈ lw_all := lw_g (lw_at lw_m6 8 rfl) rfl
theorem q1260 : (Jvm.Cond.methodLink "HaltingaleLaw" (96 : Nat) ({ cls := "HaltingaleModel", name := "thrown", desc := "()I" } : Jvm.MethodName)) ∈ lw_all := lw_g (lw_at lw_m6 36 rfl) rfl
theorem q1264 : (Jvm.Cond.methodLink "HaltingaleLaw" (95 : Nat) ({ cls := "HaltingaleModel", name := "machine", desc := "(I)I" } : Jvm.MethodName)) ∈ lw_all := lw_g (lw_at lw_m6 40 rfl) rfl
theorem q1307 : (Jvm.Cond.methodLink "HaltingaleLaw" (103 : Nat) ({ cls := "HaltingaleModel", name := "tell", desc := "(IIIIII)I" } : Jvm.MethodName)) ∈ lw_all := lw_g (lw_at lw_m6 83 rfl) rfl
theorem q1336 : (Jvm.Cond.methodLink "HaltingaleLaw" (106 : Nat) ({ cls := "HaltingaleModel", name := "amend", desc := "(IIIIII)Z" } : Jvm.MethodName)) ∈ lw_all := lw_g (lw_at lw_m6 112 rfl) rfl
theorem q1340 : (Jvm.Cond.methodLink "HaltingaleLaw" (110 : Nat) ({ cls := "HaltingaleModel", name := "child", desc := "(II)I" } : Jvm.MethodName)) ∈ lw_all := lw_g (lw_at lw_m6 116 rfl) rfl
theorem q1423 : (Jvm.Cond.methodLink "HaltingaleLaw" (114 : Nat) ({ cls := "HaltingaleModel", name := "tag", desc := "(III)I" } : Jvm.MethodName)) ∈ lw_all := lw_g (lw_at lw_m6 199 rfl) rfl
theorem q1427 : (Jvm.Cond.methodLink "HaltingaleLaw" (118 : Nat) ({ cls := "HaltingaleModel", name := "prove", desc := "(IIII)Z" } : Jvm.MethodName)) ∈ lw_all := lw_g (lw_at lw_m6 203 rfl) rfl
theorem q1518 : (Jvm.Cond.methodLink "HaltingaleLaw" (121 : Nat) ({ cls := "HaltingaleModel", name := "doubt", desc := "(I)I" } : Jvm.MethodName)) ∈ lw_all := lw_g (lw_at lw_m7 54 rfl) rfl
theorem q1522 : (Jvm.Cond.methodLink "HaltingaleLaw" (124 : Nat) ({ cls := "HaltingaleModel", name := "decide", desc := "(I)I" } : Jvm.MethodName)) ∈ lw_all := lw_g (lw_at lw_m7 58 rfl) rfl
theorem q1535 : (Jvm.Cond.methodLink "HaltingaleLaw" (127 : Nat) ({ cls := "HaltingaleModel", name := "cell", desc := "(IIII)I" } : Jvm.MethodName)) ∈ lw_all := lw_g (lw_at lw_m7 71 rfl) rfl
theorem q1542 : (Jvm.Cond.methodLink "HaltingaleLaw" (130 : Nat) ({ cls := "HaltingaleModel", name := "ofMachine", desc := "(II)I" } : Jvm.MethodName)) ∈ lw_all := lw_g (lw_at lw_m7 78 rfl) rfl
theorem q1556 : (Jvm.Cond.methodLink "HaltingaleLaw" (133 : Nat) ({ cls := "HaltingaleModel", name := "at", desc := "(III)I" } : Jvm.MethodName)) ∈ lw_all := lw_g (lw_at lw_m7 92 rfl) rfl
theorem q1567 : (Jvm.Cond.methodLink "HaltingaleLaw" (136 : Nat) ({ cls := "HaltingaleModel", name := "symbol", desc := "(III)I" } : Jvm.MethodName)) ∈ lw_all := lw_g (lw_at lw_m7 103 rfl) rfl
theorem q1571 : (Jvm.Cond.methodLink "HaltingaleLaw" (140 : Nat) ({ cls := "HaltingaleModel", name := "lean", desc := "(II)D" } : Jvm.MethodName)) ∈ lw_all := lw_g (lw_at lw_m7 107 rfl) rfl
theorem q1576 : (Jvm.Cond.methodLink "HaltingaleLaw" (143 : Nat) ({ cls := "HaltingaleModel", name := "meets", desc := "(IIII)I" } : Jvm.MethodName)) ∈ lw_all := lw_g (lw_at lw_m7 112 rfl) rfl
theorem q1580 : (Jvm.Cond.methodLink "HaltingaleLaw" (146 : Nat) ({ cls := "HaltingaleModel", name := "likeness", desc := "(II)I" } : Jvm.MethodName)) ∈ lw_all := lw_g (lw_at lw_m7 116 rfl) rfl
theorem q1587 : (Jvm.Cond.methodLink "HaltingaleLaw" (149 : Nat) ({ cls := "HaltingaleModel", name := "champion", desc := "(I)I" } : Jvm.MethodName)) ∈ lw_all := lw_g (lw_at lw_m7 123 rfl) rfl
theorem q1595 : (Jvm.Cond.methodLink "HaltingaleLaw" (152 : Nat) ({ cls := "HaltingaleModel", name := "tagged", desc := "(III)I" } : Jvm.MethodName)) ∈ lw_all := lw_g (lw_at lw_m7 131 rfl) rfl
theorem q1610 : (Jvm.Cond.methodLink "HaltingaleLaw" (155 : Nat) ({ cls := "HaltingaleModel", name := "many", desc := "(I)I" } : Jvm.MethodName)) ∈ lw_all := lw_g (lw_at lw_m7 146 rfl) rfl
theorem q1618 : (Jvm.Cond.methodLink "HaltingaleLaw" (160 : Nat) ({ cls := "HaltingaleModel", name := "meanStop", desc := "()D" } : Jvm.MethodName)) ∈ lw_all := lw_g (lw_at lw_m7 154 rfl) rfl
theorem q1622 : (Jvm.Cond.methodLink "HaltingaleLaw" (163 : Nat) ({ cls := "HaltingaleModel", name := "cycleIn", desc := "(II)I" } : Jvm.MethodName)) ∈ lw_all := lw_g (lw_at lw_m7 158 rfl) rfl
theorem q1626 : (Jvm.Cond.methodLink "HaltingaleLaw" (166 : Nat) ({ cls := "HaltingaleModel", name := "backIn", desc := "(I)I" } : Jvm.MethodName)) ∈ lw_all := lw_g (lw_at lw_m7 162 rfl) rfl
theorem q1630 : (Jvm.Cond.methodLink "HaltingaleLaw" (169 : Nat) ({ cls := "HaltingaleModel", name := "gramIn", desc := "(I)I" } : Jvm.MethodName)) ∈ lw_all := lw_g (lw_at lw_m7 166 rfl) rfl
theorem q1634 : (Jvm.Cond.methodLink "HaltingaleLaw" (174 : Nat) ({ cls := "HaltingaleModel", name := "digest", desc := "()J" } : Jvm.MethodName)) ∈ lw_all := lw_g (lw_at lw_m7 170 rfl) rfl
/-! the law's own entry -/
set_option maxRecDepth 100000
abbrev cL_law : ByteArray := code
def dkwL_law_73 : List UInt8 := [182, 0, 170, 44, 182, 0, 174, 148, 153, 0, 5, 3, 172, 132, 5, 7, 167, 249, 11, 4, 172]
abbrev dktL_law_73 : List UInt8 := dkwL_law_73 ++ []
def dkwL_law_72 : List UInt8 := [172, 21, 6, 154, 0, 15, 45, 3, 47, 21, 7, 133, 148, 153, 0, 5, 3, 172, 167, 0, 17, 43]
abbrev dktL_law_72 : List UInt8 := dkwL_law_72 ++ dktL_law_73
def dkwL_law_71 : List UInt8 := [54, 6, 44, 42, 21, 5, 4, 96, 46, 182, 0, 169, 54, 7, 44, 182, 0, 96, 21, 6, 159, 0, 5, 3]
abbrev dktL_law_71 : List UInt8 := dkwL_law_71 ++ dktL_law_72
def dkwL_law_70 : List UInt8 := [21, 7, 133, 148, 153, 0, 5, 3, 172, 167, 0, 73, 43, 42, 21, 5, 4, 96, 46, 45, 184, 0, 167]
abbrev dktL_law_70 : List UInt8 := dkwL_law_70 ++ dktL_law_71
def dkwL_law_69 : List UInt8 := [182, 0, 166, 54, 7, 44, 182, 0, 96, 21, 6, 159, 0, 5, 3, 172, 21, 6, 154, 0, 15, 45, 3, 47]
abbrev dktL_law_69 : List UInt8 := dkwL_law_69 ++ dktL_law_70
def dkwL_law_68 : List UInt8 := [167, 0, 129, 43, 42, 21, 5, 4, 96, 46, 45, 184, 0, 164, 54, 6, 44, 42, 21, 5, 4, 96, 46]
abbrev dktL_law_68 : List UInt8 := dkwL_law_68 ++ dktL_law_69
def dkwL_law_67 : List UInt8 := [159, 0, 5, 3, 172, 21, 6, 154, 0, 15, 45, 3, 47, 21, 7, 133, 148, 153, 0, 5, 3, 172]
abbrev dktL_law_67 : List UInt8 := dkwL_law_67 ++ dktL_law_68
def dkwL_law_66 : List UInt8 := [21, 5, 4, 96, 46, 42, 21, 5, 5, 96, 46, 182, 0, 163, 54, 7, 44, 182, 0, 96, 21, 6]
abbrev dktL_law_66 : List UInt8 := dkwL_law_66 ++ dktL_law_67
def dkwL_law_65 : List UInt8 := [167, 0, 197, 43, 42, 21, 5, 4, 96, 46, 42, 21, 5, 5, 96, 46, 45, 184, 0, 161, 54, 6, 44, 42]
abbrev dktL_law_65 : List UInt8 := dkwL_law_65 ++ dktL_law_66
def dkwL_law_64 : List UInt8 := [151, 153, 0, 21, 24, 6, 24, 6, 151, 153, 0, 11, 24, 8, 24, 8, 151, 154, 0, 5, 3, 172]
abbrev dktL_law_64 : List UInt8 := dkwL_law_64 ++ dktL_law_65
def dkwL_law_63 : List UInt8 := [153, 0, 5, 3, 172, 167, 0, 238, 43, 182, 0, 156, 57, 6, 44, 182, 0, 160, 57, 8, 24, 6, 24, 8]
abbrev dktL_law_63 : List UInt8 := dkwL_law_63 ++ dktL_law_64
def dkwL_law_62 : List UInt8 := [182, 0, 96, 21, 6, 159, 0, 5, 3, 172, 21, 6, 154, 0, 15, 45, 3, 47, 21, 7, 133, 148]
abbrev dktL_law_62 : List UInt8 := dkwL_law_62 ++ dktL_law_63
def dkwL_law_61 : List UInt8 := [4, 96, 46, 45, 184, 0, 153, 54, 6, 44, 42, 21, 5, 4, 96, 46, 182, 0, 155, 54, 7, 44]
abbrev dktL_law_61 : List UInt8 := dkwL_law_61 ++ dktL_law_62
def dkwL_law_60 : List UInt8 := [21, 6, 154, 0, 15, 45, 3, 47, 21, 7, 133, 148, 153, 0, 5, 3, 172, 167, 1, 38, 43, 42, 21, 5]
abbrev dktL_law_60 : List UInt8 := dkwL_law_60 ++ dktL_law_61
def dkwL_law_59 : List UInt8 := [96, 46, 42, 21, 5, 6, 96, 46, 182, 0, 152, 54, 7, 44, 182, 0, 96, 21, 6, 159, 0, 5, 3, 172]
abbrev dktL_law_59 : List UInt8 := dkwL_law_59 ++ dktL_law_60
def dkwL_law_58 : List UInt8 := [46, 42, 21, 5, 6, 96, 46, 45, 184, 0, 150, 54, 6, 44, 42, 21, 5, 4, 96, 46, 42, 21, 5, 5]
abbrev dktL_law_58 : List UInt8 := dkwL_law_58 ++ dktL_law_59
def dkwL_law_57 : List UInt8 := [21, 7, 133, 148, 153, 0, 5, 3, 172, 167, 1, 118, 43, 42, 21, 5, 4, 96, 46, 42, 21, 5, 5, 96]
abbrev dktL_law_57 : List UInt8 := dkwL_law_57 ++ dktL_law_58
def dkwL_law_56 : List UInt8 := [182, 0, 149, 54, 7, 44, 182, 0, 96, 21, 6, 159, 0, 5, 3, 172, 21, 6, 154, 0, 15, 45, 3, 47]
abbrev dktL_law_56 : List UInt8 := dkwL_law_56 ++ dktL_law_57
def dkwL_law_55 : List UInt8 := [167, 1, 174, 43, 42, 21, 5, 4, 96, 46, 45, 184, 0, 147, 54, 6, 44, 42, 21, 5, 4, 96, 46]
abbrev dktL_law_55 : List UInt8 := dkwL_law_55 ++ dktL_law_56
def dkwL_law_54 : List UInt8 := [159, 0, 5, 3, 172, 21, 6, 154, 0, 15, 45, 3, 47, 21, 7, 133, 148, 153, 0, 5, 3, 172]
abbrev dktL_law_54 : List UInt8 := dkwL_law_54 ++ dktL_law_55
def dkwL_law_53 : List UInt8 := [21, 5, 4, 96, 46, 42, 21, 5, 5, 96, 46, 182, 0, 146, 54, 7, 44, 182, 0, 96, 21, 6]
abbrev dktL_law_53 : List UInt8 := dkwL_law_53 ++ dktL_law_54
def dkwL_law_52 : List UInt8 := [167, 1, 242, 43, 42, 21, 5, 4, 96, 46, 42, 21, 5, 5, 96, 46, 45, 184, 0, 144, 54, 6, 44, 42]
abbrev dktL_law_52 : List UInt8 := dkwL_law_52 ++ dktL_law_53
def dkwL_law_51 : List UInt8 := [159, 0, 5, 3, 172, 21, 6, 154, 0, 15, 45, 3, 47, 21, 7, 133, 148, 153, 0, 5, 3, 172]
abbrev dktL_law_51 : List UInt8 := dkwL_law_51 ++ dktL_law_52
def dkwL_law_50 : List UInt8 := [46, 42, 21, 5, 6, 96, 46, 42, 21, 5, 7, 96, 46, 182, 0, 143, 54, 7, 44, 182, 0, 96, 21, 6]
abbrev dktL_law_50 : List UInt8 := dkwL_law_50 ++ dktL_law_51
def dkwL_law_49 : List UInt8 := [42, 21, 5, 7, 96, 46, 45, 184, 0, 141, 54, 6, 44, 42, 21, 5, 4, 96, 46, 42, 21, 5, 5, 96]
abbrev dktL_law_49 : List UInt8 := dkwL_law_49 ++ dktL_law_50
def dkwL_law_48 : List UInt8 := [3, 172, 167, 2, 78, 43, 42, 21, 5, 4, 96, 46, 42, 21, 5, 5, 96, 46, 42, 21, 5, 6, 96, 46]
abbrev dktL_law_48 : List UInt8 := dkwL_law_48 ++ dktL_law_49
def dkwL_law_47 : List UInt8 := [151, 153, 0, 25, 25, 4, 3, 49, 25, 4, 3, 49, 151, 153, 0, 11, 24, 7, 24, 7, 151, 154, 0, 5]
abbrev dktL_law_47 : List UInt8 := dkwL_law_47 ++ dktL_law_48
def dkwL_law_46 : List UInt8 := [57, 7, 44, 182, 0, 96, 21, 6, 159, 0, 5, 3, 172, 21, 6, 154, 0, 35, 25, 4, 3, 49, 24, 7]
abbrev dktL_law_46 : List UInt8 := dkwL_law_46 ++ dktL_law_47
def dkwL_law_45 : List UInt8 := [46, 25, 4, 184, 0, 137, 54, 6, 44, 42, 21, 5, 4, 96, 46, 42, 21, 5, 5, 96, 46, 182, 0, 140]
abbrev dktL_law_45 : List UInt8 := dkwL_law_45 ++ dktL_law_46
def dkwL_law_44 : List UInt8 := [21, 7, 133, 148, 153, 0, 5, 3, 172, 167, 2, 167, 43, 42, 21, 5, 4, 96, 46, 42, 21, 5, 5, 96]
abbrev dktL_law_44 : List UInt8 := dkwL_law_44 ++ dktL_law_45
def dkwL_law_43 : List UInt8 := [182, 0, 136, 54, 7, 44, 182, 0, 96, 21, 6, 159, 0, 5, 3, 172, 21, 6, 154, 0, 15, 45, 3, 47]
abbrev dktL_law_43 : List UInt8 := dkwL_law_43 ++ dktL_law_44
def dkwL_law_42 : List UInt8 := [184, 0, 134, 54, 6, 44, 42, 21, 5, 4, 96, 46, 42, 21, 5, 5, 96, 46, 42, 21, 5, 6, 96, 46]
abbrev dktL_law_42 : List UInt8 := dkwL_law_42 ++ dktL_law_43
def dkwL_law_41 : List UInt8 := [167, 2, 247, 43, 42, 21, 5, 4, 96, 46, 42, 21, 5, 5, 96, 46, 42, 21, 5, 6, 96, 46, 45]
abbrev dktL_law_41 : List UInt8 := dkwL_law_41 ++ dktL_law_42
def dkwL_law_40 : List UInt8 := [159, 0, 5, 3, 172, 21, 6, 154, 0, 15, 45, 3, 47, 21, 7, 133, 148, 153, 0, 5, 3, 172]
abbrev dktL_law_40 : List UInt8 := dkwL_law_40 ++ dktL_law_41
def dkwL_law_39 : List UInt8 := [21, 5, 5, 96, 46, 42, 21, 5, 6, 96, 46, 182, 0, 133, 54, 7, 44, 182, 0, 96, 21, 6]
abbrev dktL_law_39 : List UInt8 := dkwL_law_39 ++ dktL_law_40
def dkwL_law_38 : List UInt8 := [5, 96, 46, 42, 21, 5, 6, 96, 46, 45, 184, 0, 131, 54, 6, 44, 42, 21, 5, 4, 96, 46, 42]
abbrev dktL_law_38 : List UInt8 := dkwL_law_38 ++ dktL_law_39
def dkwL_law_37 : List UInt8 := [3, 47, 21, 7, 133, 148, 153, 0, 5, 3, 172, 167, 3, 71, 43, 42, 21, 5, 4, 96, 46, 42, 21, 5]
abbrev dktL_law_37 : List UInt8 := dkwL_law_37 ++ dktL_law_38
def dkwL_law_36 : List UInt8 := [96, 46, 182, 0, 130, 54, 7, 44, 182, 0, 96, 21, 6, 159, 0, 5, 3, 172, 21, 6, 154, 0, 15, 45]
abbrev dktL_law_36 : List UInt8 := dkwL_law_36 ++ dktL_law_37
def dkwL_law_35 : List UInt8 := [46, 42, 21, 5, 5, 96, 46, 45, 184, 0, 128, 54, 6, 44, 42, 21, 5, 4, 96, 46, 42, 21, 5, 5]
abbrev dktL_law_35 : List UInt8 := dkwL_law_35 ++ dktL_law_36
def dkwL_law_34 : List UInt8 := [154, 0, 15, 45, 3, 47, 21, 7, 133, 148, 153, 0, 5, 3, 172, 167, 3, 139, 43, 42, 21, 5, 4, 96]
abbrev dktL_law_34 : List UInt8 := dkwL_law_34 ++ dktL_law_35
def dkwL_law_33 : List UInt8 := [42, 21, 5, 7, 96, 46, 182, 0, 127, 54, 7, 44, 182, 0, 96, 21, 6, 159, 0, 5, 3, 172, 21, 6]
abbrev dktL_law_33 : List UInt8 := dkwL_law_33 ++ dktL_law_34
def dkwL_law_32 : List UInt8 := [184, 0, 125, 54, 6, 44, 42, 21, 5, 4, 96, 46, 42, 21, 5, 5, 96, 46, 42, 21, 5, 6, 96, 46]
abbrev dktL_law_32 : List UInt8 := dkwL_law_32 ++ dktL_law_33
def dkwL_law_31 : List UInt8 := [21, 5, 4, 96, 46, 42, 21, 5, 5, 96, 46, 42, 21, 5, 6, 96, 46, 42, 21, 5, 7, 96, 46, 45]
abbrev dktL_law_31 : List UInt8 := dkwL_law_31 ++ dktL_law_32
def dkwL_law_30 : List UInt8 := [172, 21, 6, 154, 0, 15, 45, 3, 47, 21, 7, 133, 148, 153, 0, 5, 3, 172, 167, 3, 231, 43, 42]
abbrev dktL_law_30 : List UInt8 := dkwL_law_30 ++ dktL_law_31
def dkwL_law_29 : List UInt8 := [54, 6, 44, 42, 21, 5, 4, 96, 46, 182, 0, 124, 54, 7, 44, 182, 0, 96, 21, 6, 159, 0, 5, 3]
abbrev dktL_law_29 : List UInt8 := dkwL_law_29 ++ dktL_law_30
def dkwL_law_28 : List UInt8 := [21, 7, 133, 148, 153, 0, 5, 3, 172, 167, 4, 31, 43, 42, 21, 5, 4, 96, 46, 45, 184, 0, 122]
abbrev dktL_law_28 : List UInt8 := dkwL_law_28 ++ dktL_law_29
def dkwL_law_27 : List UInt8 := [182, 0, 121, 54, 7, 44, 182, 0, 96, 21, 6, 159, 0, 5, 3, 172, 21, 6, 154, 0, 15, 45, 3, 47]
abbrev dktL_law_27 : List UInt8 := dkwL_law_27 ++ dktL_law_28
def dkwL_law_26 : List UInt8 := [167, 4, 87, 43, 42, 21, 5, 4, 96, 46, 45, 184, 0, 119, 54, 6, 44, 42, 21, 5, 4, 96, 46]
abbrev dktL_law_26 : List UInt8 := dkwL_law_26 ++ dktL_law_27
def dkwL_law_25 : List UInt8 := [154, 0, 22, 45, 3, 47, 21, 7, 153, 0, 7, 10, 167, 0, 4, 9, 148, 153, 0, 5, 3, 172]
abbrev dktL_law_25 : List UInt8 := dkwL_law_25 ++ dktL_law_26
def dkwL_law_24 : List UInt8 := [42, 21, 5, 7, 96, 46, 182, 0, 118, 54, 7, 44, 182, 0, 96, 21, 6, 159, 0, 5, 3, 172, 21, 6]
abbrev dktL_law_24 : List UInt8 := dkwL_law_24 ++ dktL_law_25
def dkwL_law_23 : List UInt8 := [184, 0, 115, 54, 6, 44, 42, 21, 5, 4, 96, 46, 42, 21, 5, 5, 96, 46, 42, 21, 5, 6, 96, 46]
abbrev dktL_law_23 : List UInt8 := dkwL_law_23 ++ dktL_law_24
def dkwL_law_22 : List UInt8 := [21, 5, 4, 96, 46, 42, 21, 5, 5, 96, 46, 42, 21, 5, 6, 96, 46, 42, 21, 5, 7, 96, 46, 45]
abbrev dktL_law_22 : List UInt8 := dkwL_law_22 ++ dktL_law_23
def dkwL_law_21 : List UInt8 := [172, 21, 6, 154, 0, 15, 45, 3, 47, 21, 7, 133, 148, 153, 0, 5, 3, 172, 167, 4, 186, 43, 42]
abbrev dktL_law_21 : List UInt8 := dkwL_law_21 ++ dktL_law_22
def dkwL_law_20 : List UInt8 := [5, 96, 46, 42, 21, 5, 6, 96, 46, 182, 0, 114, 54, 7, 44, 182, 0, 96, 21, 6, 159, 0, 5, 3]
abbrev dktL_law_20 : List UInt8 := dkwL_law_20 ++ dktL_law_21
def dkwL_law_19 : List UInt8 := [96, 46, 42, 21, 5, 6, 96, 46, 45, 184, 0, 111, 54, 6, 44, 42, 21, 5, 4, 96, 46, 42, 21, 5]
abbrev dktL_law_19 : List UInt8 := dkwL_law_19 ++ dktL_law_20
def dkwL_law_18 : List UInt8 := [47, 21, 7, 133, 148, 153, 0, 5, 3, 172, 167, 5, 10, 43, 42, 21, 5, 4, 96, 46, 42, 21, 5, 5]
abbrev dktL_law_18 : List UInt8 := dkwL_law_18 ++ dktL_law_19
def dkwL_law_17 : List UInt8 := [46, 182, 0, 110, 54, 7, 44, 182, 0, 96, 21, 6, 159, 0, 5, 3, 172, 21, 6, 154, 0, 15, 45, 3]
abbrev dktL_law_17 : List UInt8 := dkwL_law_17 ++ dktL_law_18
def dkwL_law_16 : List UInt8 := [42, 21, 5, 5, 96, 46, 45, 184, 0, 107, 54, 6, 44, 42, 21, 5, 4, 96, 46, 42, 21, 5, 5, 96]
abbrev dktL_law_16 : List UInt8 := dkwL_law_16 ++ dktL_law_17
def dkwL_law_15 : List UInt8 := [153, 0, 7, 10, 167, 0, 4, 9, 148, 153, 0, 5, 3, 172, 167, 5, 78, 43, 42, 21, 5, 4, 96, 46]
abbrev dktL_law_15 : List UInt8 := dkwL_law_15 ++ dktL_law_16
def dkwL_law_14 : List UInt8 := [54, 7, 44, 182, 0, 96, 21, 6, 159, 0, 5, 3, 172, 21, 6, 154, 0, 22, 45, 3, 47, 21, 7]
abbrev dktL_law_14 : List UInt8 := dkwL_law_14 ++ dktL_law_15
def dkwL_law_13 : List UInt8 := [46, 42, 21, 5, 7, 96, 46, 42, 21, 5, 8, 96, 46, 42, 21, 5, 16, 6, 96, 46, 182, 0, 106]
abbrev dktL_law_13 : List UInt8 := dkwL_law_13 ++ dktL_law_14
def dkwL_law_12 : List UInt8 := [45, 184, 0, 104, 54, 6, 44, 42, 21, 5, 4, 96, 46, 42, 21, 5, 5, 96, 46, 42, 21, 5, 6, 96]
abbrev dktL_law_12 : List UInt8 := dkwL_law_12 ++ dktL_law_13
def dkwL_law_11 : List UInt8 := [21, 5, 6, 96, 46, 42, 21, 5, 7, 96, 46, 42, 21, 5, 8, 96, 46, 42, 21, 5, 16, 6, 96, 46]
abbrev dktL_law_11 : List UInt8 := dkwL_law_11 ++ dktL_law_12
def dkwL_law_10 : List UInt8 := [148, 153, 0, 5, 3, 172, 167, 5, 203, 43, 42, 21, 5, 4, 96, 46, 42, 21, 5, 5, 96, 46, 42]
abbrev dktL_law_10 : List UInt8 := dkwL_law_10 ++ dktL_law_11
def dkwL_law_9 : List UInt8 := [54, 7, 44, 182, 0, 96, 21, 6, 159, 0, 5, 3, 172, 21, 6, 154, 0, 15, 45, 3, 47, 21, 7, 133]
abbrev dktL_law_9 : List UInt8 := dkwL_law_9 ++ dktL_law_10
def dkwL_law_8 : List UInt8 := [46, 42, 21, 5, 7, 96, 46, 42, 21, 5, 8, 96, 46, 42, 21, 5, 16, 6, 96, 46, 182, 0, 103]
abbrev dktL_law_8 : List UInt8 := dkwL_law_8 ++ dktL_law_9
def dkwL_law_7 : List UInt8 := [45, 184, 0, 100, 54, 6, 44, 42, 21, 5, 4, 96, 46, 42, 21, 5, 5, 96, 46, 42, 21, 5, 6, 96]
abbrev dktL_law_7 : List UInt8 := dkwL_law_7 ++ dktL_law_8
def dkwL_law_6 : List UInt8 := [21, 5, 6, 96, 46, 42, 21, 5, 7, 96, 46, 42, 21, 5, 8, 96, 46, 42, 21, 5, 16, 6, 96, 46]
abbrev dktL_law_6 : List UInt8 := dkwL_law_6 ++ dktL_law_7
def dkwL_law_5 : List UInt8 := [148, 153, 0, 5, 3, 172, 167, 6, 65, 43, 42, 21, 5, 4, 96, 46, 42, 21, 5, 5, 96, 46, 42]
abbrev dktL_law_5 : List UInt8 := dkwL_law_5 ++ dktL_law_6
def dkwL_law_4 : List UInt8 := [54, 7, 44, 182, 0, 96, 21, 6, 159, 0, 5, 3, 172, 21, 6, 154, 0, 15, 45, 3, 47, 21, 7, 133]
abbrev dktL_law_4 : List UInt8 := dkwL_law_4 ++ dktL_law_5
def dkwL_law_3 : List UInt8 := [43, 42, 21, 5, 4, 96, 46, 45, 184, 0, 90, 54, 6, 44, 42, 21, 5, 4, 96, 46, 182, 0, 95]
abbrev dktL_law_3 : List UInt8 := dkwL_law_3 ++ dktL_law_4
def dkwL_law_2 : List UInt8 := [170, 0, 0, 0, 0, 6, 225, 0, 0, 0, 0, 0, 0, 0, 22, 0, 0, 0, 107, 0, 0, 0, 163, 0, 0, 1, 25, 0, 0, 1, 150, 0, 0, 1, 218, 0, 0, 2, 42, 0, 0, 2, 141, 0, 0, 2, 197, 0, 0, 2, 253, 0, 0, 3, 89, 0, 0, 3, 157, 0, 0, 3, 237, 0, 0, 4, 61, 0, 0, 4, 150, 0, 0, 4, 242, 0, 0, 5, 54, 0, 0, 5, 110, 0, 0, 5, 190, 0, 0, 5, 246, 0, 0, 6, 31, 0, 0, 6, 99, 0, 0, 6, 155, 0, 0, 6, 211]
abbrev dktL_law_2 : List UInt8 := dkwL_law_2 ++ dktL_law_3
def dkwL_law_1 : List UInt8 := [58, 4, 3, 54, 5, 21, 5, 42, 190, 16, 7, 100, 163, 6, 241, 42, 21, 5, 46, 16, 31, 126]
abbrev dktL_law_1 : List UInt8 := dkwL_law_1 ++ dktL_law_2
def dkwL_law_0 : List UInt8 := [187, 0, 8, 89, 183, 0, 86, 76, 187, 0, 87, 89, 183, 0, 89, 77, 4, 188, 11, 78, 4, 188, 7]
abbrev dktL_law_0 : List UInt8 := dkwL_law_0 ++ dktL_law_1
theorem dksL_law_0 : cL_law.data.toList.drop 0 = dktL_law_0 := by decide +kernel
theorem dksL_law_1 : cL_law.data.toList.drop 23 = dktL_law_1 := dk_seg dksL_law_0 23 rfl rfl
theorem dksL_law_2 : cL_law.data.toList.drop 45 = dktL_law_2 := dk_seg dksL_law_1 22 rfl rfl
theorem dksL_law_3 : cL_law.data.toList.drop 152 = dktL_law_3 := dk_seg dksL_law_2 107 rfl rfl
theorem dksL_law_4 : cL_law.data.toList.drop 175 = dktL_law_4 := dk_seg dksL_law_3 23 rfl rfl
theorem dksL_law_5 : cL_law.data.toList.drop 199 = dktL_law_5 := dk_seg dksL_law_4 24 rfl rfl
theorem dksL_law_6 : cL_law.data.toList.drop 222 = dktL_law_6 := dk_seg dksL_law_5 23 rfl rfl
theorem dksL_law_7 : cL_law.data.toList.drop 246 = dktL_law_7 := dk_seg dksL_law_6 24 rfl rfl
theorem dksL_law_8 : cL_law.data.toList.drop 270 = dktL_law_8 := dk_seg dksL_law_7 24 rfl rfl
theorem dksL_law_9 : cL_law.data.toList.drop 293 = dktL_law_9 := dk_seg dksL_law_8 23 rfl rfl
theorem dksL_law_10 : cL_law.data.toList.drop 317 = dktL_law_10 := dk_seg dksL_law_9 24 rfl rfl
theorem dksL_law_11 : cL_law.data.toList.drop 340 = dktL_law_11 := dk_seg dksL_law_10 23 rfl rfl
theorem dksL_law_12 : cL_law.data.toList.drop 364 = dktL_law_12 := dk_seg dksL_law_11 24 rfl rfl
theorem dksL_law_13 : cL_law.data.toList.drop 388 = dktL_law_13 := dk_seg dksL_law_12 24 rfl rfl
theorem dksL_law_14 : cL_law.data.toList.drop 411 = dktL_law_14 := dk_seg dksL_law_13 23 rfl rfl
theorem dksL_law_15 : cL_law.data.toList.drop 434 = dktL_law_15 := dk_seg dksL_law_14 23 rfl rfl
theorem dksL_law_16 : cL_law.data.toList.drop 458 = dktL_law_16 := dk_seg dksL_law_15 24 rfl rfl
theorem dksL_law_17 : cL_law.data.toList.drop 482 = dktL_law_17 := dk_seg dksL_law_16 24 rfl rfl
theorem dksL_law_18 : cL_law.data.toList.drop 506 = dktL_law_18 := dk_seg dksL_law_17 24 rfl rfl
theorem dksL_law_19 : cL_law.data.toList.drop 530 = dktL_law_19 := dk_seg dksL_law_18 24 rfl rfl
theorem dksL_law_20 : cL_law.data.toList.drop 554 = dktL_law_20 := dk_seg dksL_law_19 24 rfl rfl
theorem dksL_law_21 : cL_law.data.toList.drop 578 = dktL_law_21 := dk_seg dksL_law_20 24 rfl rfl
theorem dksL_law_22 : cL_law.data.toList.drop 601 = dktL_law_22 := dk_seg dksL_law_21 23 rfl rfl
theorem dksL_law_23 : cL_law.data.toList.drop 625 = dktL_law_23 := dk_seg dksL_law_22 24 rfl rfl
theorem dksL_law_24 : cL_law.data.toList.drop 649 = dktL_law_24 := dk_seg dksL_law_23 24 rfl rfl
theorem dksL_law_25 : cL_law.data.toList.drop 673 = dktL_law_25 := dk_seg dksL_law_24 24 rfl rfl
theorem dksL_law_26 : cL_law.data.toList.drop 695 = dktL_law_26 := dk_seg dksL_law_25 22 rfl rfl
theorem dksL_law_27 : cL_law.data.toList.drop 718 = dktL_law_27 := dk_seg dksL_law_26 23 rfl rfl
theorem dksL_law_28 : cL_law.data.toList.drop 742 = dktL_law_28 := dk_seg dksL_law_27 24 rfl rfl
theorem dksL_law_29 : cL_law.data.toList.drop 765 = dktL_law_29 := dk_seg dksL_law_28 23 rfl rfl
theorem dksL_law_30 : cL_law.data.toList.drop 789 = dktL_law_30 := dk_seg dksL_law_29 24 rfl rfl
theorem dksL_law_31 : cL_law.data.toList.drop 812 = dktL_law_31 := dk_seg dksL_law_30 23 rfl rfl
theorem dksL_law_32 : cL_law.data.toList.drop 836 = dktL_law_32 := dk_seg dksL_law_31 24 rfl rfl
theorem dksL_law_33 : cL_law.data.toList.drop 860 = dktL_law_33 := dk_seg dksL_law_32 24 rfl rfl
theorem dksL_law_34 : cL_law.data.toList.drop 884 = dktL_law_34 := dk_seg dksL_law_33 24 rfl rfl
theorem dksL_law_35 : cL_law.data.toList.drop 908 = dktL_law_35 := dk_seg dksL_law_34 24 rfl rfl
theorem dksL_law_36 : cL_law.data.toList.drop 932 = dktL_law_36 := dk_seg dksL_law_35 24 rfl rfl
theorem dksL_law_37 : cL_law.data.toList.drop 956 = dktL_law_37 := dk_seg dksL_law_36 24 rfl rfl
theorem dksL_law_38 : cL_law.data.toList.drop 980 = dktL_law_38 := dk_seg dksL_law_37 24 rfl rfl
theorem dksL_law_39 : cL_law.data.toList.drop 1003 = dktL_law_39 := dk_seg dksL_law_38 23 rfl rfl
theorem dksL_law_40 : cL_law.data.toList.drop 1025 = dktL_law_40 := dk_seg dksL_law_39 22 rfl rfl
theorem dksL_law_41 : cL_law.data.toList.drop 1047 = dktL_law_41 := dk_seg dksL_law_40 22 rfl rfl
theorem dksL_law_42 : cL_law.data.toList.drop 1070 = dktL_law_42 := dk_seg dksL_law_41 23 rfl rfl
theorem dksL_law_43 : cL_law.data.toList.drop 1094 = dktL_law_43 := dk_seg dksL_law_42 24 rfl rfl
theorem dksL_law_44 : cL_law.data.toList.drop 1118 = dktL_law_44 := dk_seg dksL_law_43 24 rfl rfl
theorem dksL_law_45 : cL_law.data.toList.drop 1142 = dktL_law_45 := dk_seg dksL_law_44 24 rfl rfl
theorem dksL_law_46 : cL_law.data.toList.drop 1166 = dktL_law_46 := dk_seg dksL_law_45 24 rfl rfl
theorem dksL_law_47 : cL_law.data.toList.drop 1190 = dktL_law_47 := dk_seg dksL_law_46 24 rfl rfl
theorem dksL_law_48 : cL_law.data.toList.drop 1214 = dktL_law_48 := dk_seg dksL_law_47 24 rfl rfl
theorem dksL_law_49 : cL_law.data.toList.drop 1238 = dktL_law_49 := dk_seg dksL_law_48 24 rfl rfl
theorem dksL_law_50 : cL_law.data.toList.drop 1262 = dktL_law_50 := dk_seg dksL_law_49 24 rfl rfl
theorem dksL_law_51 : cL_law.data.toList.drop 1286 = dktL_law_51 := dk_seg dksL_law_50 24 rfl rfl
theorem dksL_law_52 : cL_law.data.toList.drop 1308 = dktL_law_52 := dk_seg dksL_law_51 22 rfl rfl
theorem dksL_law_53 : cL_law.data.toList.drop 1332 = dktL_law_53 := dk_seg dksL_law_52 24 rfl rfl
theorem dksL_law_54 : cL_law.data.toList.drop 1354 = dktL_law_54 := dk_seg dksL_law_53 22 rfl rfl
theorem dksL_law_55 : cL_law.data.toList.drop 1376 = dktL_law_55 := dk_seg dksL_law_54 22 rfl rfl
theorem dksL_law_56 : cL_law.data.toList.drop 1399 = dktL_law_56 := dk_seg dksL_law_55 23 rfl rfl
theorem dksL_law_57 : cL_law.data.toList.drop 1423 = dktL_law_57 := dk_seg dksL_law_56 24 rfl rfl
theorem dksL_law_58 : cL_law.data.toList.drop 1447 = dktL_law_58 := dk_seg dksL_law_57 24 rfl rfl
theorem dksL_law_59 : cL_law.data.toList.drop 1471 = dktL_law_59 := dk_seg dksL_law_58 24 rfl rfl
theorem dksL_law_60 : cL_law.data.toList.drop 1495 = dktL_law_60 := dk_seg dksL_law_59 24 rfl rfl
theorem dksL_law_61 : cL_law.data.toList.drop 1519 = dktL_law_61 := dk_seg dksL_law_60 24 rfl rfl
theorem dksL_law_62 : cL_law.data.toList.drop 1541 = dktL_law_62 := dk_seg dksL_law_61 22 rfl rfl
theorem dksL_law_63 : cL_law.data.toList.drop 1563 = dktL_law_63 := dk_seg dksL_law_62 22 rfl rfl
theorem dksL_law_64 : cL_law.data.toList.drop 1587 = dktL_law_64 := dk_seg dksL_law_63 24 rfl rfl
theorem dksL_law_65 : cL_law.data.toList.drop 1609 = dktL_law_65 := dk_seg dksL_law_64 22 rfl rfl
theorem dksL_law_66 : cL_law.data.toList.drop 1633 = dktL_law_66 := dk_seg dksL_law_65 24 rfl rfl
theorem dksL_law_67 : cL_law.data.toList.drop 1655 = dktL_law_67 := dk_seg dksL_law_66 22 rfl rfl
theorem dksL_law_68 : cL_law.data.toList.drop 1677 = dktL_law_68 := dk_seg dksL_law_67 22 rfl rfl
theorem dksL_law_69 : cL_law.data.toList.drop 1700 = dktL_law_69 := dk_seg dksL_law_68 23 rfl rfl
theorem dksL_law_70 : cL_law.data.toList.drop 1724 = dktL_law_70 := dk_seg dksL_law_69 24 rfl rfl
theorem dksL_law_71 : cL_law.data.toList.drop 1747 = dktL_law_71 := dk_seg dksL_law_70 23 rfl rfl
theorem dksL_law_72 : cL_law.data.toList.drop 1771 = dktL_law_72 := dk_seg dksL_law_71 24 rfl rfl
theorem dksL_law_73 : cL_law.data.toList.drop 1793 = dktL_law_73 := dk_seg dksL_law_72 22 rfl rfl
theorem dL_law_0 : decode cL_law 0 = .ok (.new 8, 3) := dk_187 0 8 (dk_at dksL_law_0 0 rfl rfl)
theorem dL_law_3 : decode cL_law 3 = .ok (.dup, 1) := dk_89 (dk_at dksL_law_0 3 rfl rfl)
theorem dL_law_4 : decode cL_law 4 = .ok (.invokespecial 86, 3) := dk_183 0 86 (dk_at dksL_law_0 4 rfl rfl)
theorem dL_law_7 : decode cL_law 7 = .ok (.astore_n 1, 1) := dk_76 (dk_at dksL_law_0 7 rfl rfl)
theorem dL_law_8 : decode cL_law 8 = .ok (.new 87, 3) := dk_187 0 87 (dk_at dksL_law_0 8 rfl rfl)
theorem dL_law_11 : decode cL_law 11 = .ok (.dup, 1) := dk_89 (dk_at dksL_law_0 11 rfl rfl)
theorem dL_law_12 : decode cL_law 12 = .ok (.invokespecial 89, 3) := dk_183 0 89 (dk_at dksL_law_0 12 rfl rfl)
theorem dL_law_15 : decode cL_law 15 = .ok (.astore_n 2, 1) := dk_77 (dk_at dksL_law_0 15 rfl rfl)
theorem dL_law_16 : decode cL_law 16 = .ok (.iconst 1, 1) := dk_4 (dk_at dksL_law_0 16 rfl rfl)
theorem dL_law_17 : decode cL_law 17 = .ok (.newarray .long, 2) := dk_188_11 (dk_at dksL_law_0 17 rfl rfl)
theorem dL_law_19 : decode cL_law 19 = .ok (.astore_n 3, 1) := dk_78 (dk_at dksL_law_0 19 rfl rfl)
theorem dL_law_20 : decode cL_law 20 = .ok (.iconst 1, 1) := dk_4 (dk_at dksL_law_0 20 rfl rfl)
theorem dL_law_21 : decode cL_law 21 = .ok (.newarray .double, 2) := dk_188_7 (dk_at dksL_law_0 21 rfl rfl)
theorem dL_law_23 : decode cL_law 23 = .ok (.astore 4, 2) := dk_58 4 (dk_at dksL_law_1 0 rfl rfl)
theorem dL_law_25 : decode cL_law 25 = .ok (.iconst 0, 1) := dk_3 (dk_at dksL_law_1 2 rfl rfl)
theorem dL_law_26 : decode cL_law 26 = .ok (.istore 5, 2) := dk_54 5 (dk_at dksL_law_1 3 rfl rfl)
theorem dL_law_28 : decode cL_law 28 = .ok (.iload 5, 2) := dk_21 5 (dk_at dksL_law_1 5 rfl rfl)
theorem dL_law_30 : decode cL_law 30 = .ok (.aload_n 0, 1) := dk_42 (dk_at dksL_law_1 7 rfl rfl)
theorem dL_law_31 : decode cL_law 31 = .ok (.arraylength, 1) := dk_190 (dk_at dksL_law_1 8 rfl rfl)
theorem dL_law_32 : decode cL_law 32 = .ok (.bipush 7, 2) := dk_16 7 (dk_at dksL_law_1 9 rfl rfl)
theorem dL_law_34 : decode cL_law 34 = .ok (.isub, 1) := dk_100 (dk_at dksL_law_1 11 rfl rfl)
theorem dL_law_35 : decode cL_law 35 = .ok (.if_icmp .gt 1777, 3) := dk_163 6 241 (dk_at dksL_law_1 12 rfl rfl)
theorem dL_law_38 : decode cL_law 38 = .ok (.aload_n 0, 1) := dk_42 (dk_at dksL_law_1 15 rfl rfl)
theorem dL_law_39 : decode cL_law 39 = .ok (.iload 5, 2) := dk_21 5 (dk_at dksL_law_1 16 rfl rfl)
theorem dL_law_41 : decode cL_law 41 = .ok (.iaload, 1) := dk_46 (dk_at dksL_law_1 18 rfl rfl)
theorem dL_law_42 : decode cL_law 42 = .ok (.bipush 31, 2) := dk_16 31 (dk_at dksL_law_1 19 rfl rfl)
theorem dL_law_44 : decode cL_law 44 = .ok (.iand, 1) := dk_126 (dk_at dksL_law_1 21 rfl rfl)
theorem dL_law_45 : decode cL_law 45 = .ok (.tableswitch 1761 0 22 #[107, 163, 281, 406, 474, 554, 653, 709, 765, 857, 925, 1005, 1085, 1174, 1266, 1334, 1390, 1470, 1526, 1567, 1635, 1691, 1747], 107) := by decide +kernel
theorem dL_law_152 : decode cL_law 152 = .ok (.aload_n 1, 1) := dk_43 (dk_at dksL_law_3 0 rfl rfl)
theorem dL_law_153 : decode cL_law 153 = .ok (.aload_n 0, 1) := dk_42 (dk_at dksL_law_3 1 rfl rfl)
theorem dL_law_154 : decode cL_law 154 = .ok (.iload 5, 2) := dk_21 5 (dk_at dksL_law_3 2 rfl rfl)
theorem dL_law_156 : decode cL_law 156 = .ok (.iconst 1, 1) := dk_4 (dk_at dksL_law_3 4 rfl rfl)
theorem dL_law_157 : decode cL_law 157 = .ok (.iadd, 1) := dk_96 (dk_at dksL_law_3 5 rfl rfl)
theorem dL_law_158 : decode cL_law 158 = .ok (.iaload, 1) := dk_46 (dk_at dksL_law_3 6 rfl rfl)
theorem dL_law_159 : decode cL_law 159 = .ok (.aload_n 3, 1) := dk_45 (dk_at dksL_law_3 7 rfl rfl)
theorem dL_law_160 : decode cL_law 160 = .ok (.invokestatic 90, 3) := dk_184 0 90 (dk_at dksL_law_3 8 rfl rfl)
theorem dL_law_163 : decode cL_law 163 = .ok (.istore 6, 2) := dk_54 6 (dk_at dksL_law_3 11 rfl rfl)
theorem dL_law_165 : decode cL_law 165 = .ok (.aload_n 2, 1) := dk_44 (dk_at dksL_law_3 13 rfl rfl)
theorem dL_law_166 : decode cL_law 166 = .ok (.aload_n 0, 1) := dk_42 (dk_at dksL_law_3 14 rfl rfl)
theorem dL_law_167 : decode cL_law 167 = .ok (.iload 5, 2) := dk_21 5 (dk_at dksL_law_3 15 rfl rfl)
theorem dL_law_169 : decode cL_law 169 = .ok (.iconst 1, 1) := dk_4 (dk_at dksL_law_3 17 rfl rfl)
theorem dL_law_170 : decode cL_law 170 = .ok (.iadd, 1) := dk_96 (dk_at dksL_law_3 18 rfl rfl)
theorem dL_law_171 : decode cL_law 171 = .ok (.iaload, 1) := dk_46 (dk_at dksL_law_3 19 rfl rfl)
theorem dL_law_172 : decode cL_law 172 = .ok (.invokevirtual 95, 3) := dk_182 0 95 (dk_at dksL_law_3 20 rfl rfl)
theorem dL_law_175 : decode cL_law 175 = .ok (.istore 7, 2) := dk_54 7 (dk_at dksL_law_4 0 rfl rfl)
theorem dL_law_177 : decode cL_law 177 = .ok (.aload_n 2, 1) := dk_44 (dk_at dksL_law_4 2 rfl rfl)
theorem dL_law_178 : decode cL_law 178 = .ok (.invokevirtual 96, 3) := dk_182 0 96 (dk_at dksL_law_4 3 rfl rfl)
theorem dL_law_181 : decode cL_law 181 = .ok (.iload 6, 2) := dk_21 6 (dk_at dksL_law_4 6 rfl rfl)
theorem dL_law_183 : decode cL_law 183 = .ok (.if_icmp .eq 5, 3) := dk_159 0 5 (dk_at dksL_law_4 8 rfl rfl)
theorem dL_law_186 : decode cL_law 186 = .ok (.iconst 0, 1) := dk_3 (dk_at dksL_law_4 11 rfl rfl)
theorem dL_law_187 : decode cL_law 187 = .ok (.ireturn, 1) := dk_172 (dk_at dksL_law_4 12 rfl rfl)
theorem dL_law_188 : decode cL_law 188 = .ok (.iload 6, 2) := dk_21 6 (dk_at dksL_law_4 13 rfl rfl)
theorem dL_law_190 : decode cL_law 190 = .ok (.ifCond .ne 15, 3) := dk_154 0 15 (dk_at dksL_law_4 15 rfl rfl)
theorem dL_law_193 : decode cL_law 193 = .ok (.aload_n 3, 1) := dk_45 (dk_at dksL_law_4 18 rfl rfl)
theorem dL_law_194 : decode cL_law 194 = .ok (.iconst 0, 1) := dk_3 (dk_at dksL_law_4 19 rfl rfl)
theorem dL_law_195 : decode cL_law 195 = .ok (.laload, 1) := dk_47 (dk_at dksL_law_4 20 rfl rfl)
theorem dL_law_196 : decode cL_law 196 = .ok (.iload 7, 2) := dk_21 7 (dk_at dksL_law_4 21 rfl rfl)
theorem dL_law_198 : decode cL_law 198 = .ok (.i2l, 1) := dk_133 (dk_at dksL_law_4 23 rfl rfl)
theorem dL_law_199 : decode cL_law 199 = .ok (.lcmp, 1) := dk_148 (dk_at dksL_law_5 0 rfl rfl)
theorem dL_law_200 : decode cL_law 200 = .ok (.ifCond .eq 5, 3) := dk_153 0 5 (dk_at dksL_law_5 1 rfl rfl)
theorem dL_law_203 : decode cL_law 203 = .ok (.iconst 0, 1) := dk_3 (dk_at dksL_law_5 4 rfl rfl)
theorem dL_law_204 : decode cL_law 204 = .ok (.ireturn, 1) := dk_172 (dk_at dksL_law_5 5 rfl rfl)
theorem dL_law_205 : decode cL_law 205 = .ok (.goto 1601, 3) := dk_167 6 65 (dk_at dksL_law_5 6 rfl rfl)
theorem dL_law_208 : decode cL_law 208 = .ok (.aload_n 1, 1) := dk_43 (dk_at dksL_law_5 9 rfl rfl)
theorem dL_law_209 : decode cL_law 209 = .ok (.aload_n 0, 1) := dk_42 (dk_at dksL_law_5 10 rfl rfl)
theorem dL_law_210 : decode cL_law 210 = .ok (.iload 5, 2) := dk_21 5 (dk_at dksL_law_5 11 rfl rfl)
theorem dL_law_212 : decode cL_law 212 = .ok (.iconst 1, 1) := dk_4 (dk_at dksL_law_5 13 rfl rfl)
theorem dL_law_213 : decode cL_law 213 = .ok (.iadd, 1) := dk_96 (dk_at dksL_law_5 14 rfl rfl)
theorem dL_law_214 : decode cL_law 214 = .ok (.iaload, 1) := dk_46 (dk_at dksL_law_5 15 rfl rfl)
theorem dL_law_215 : decode cL_law 215 = .ok (.aload_n 0, 1) := dk_42 (dk_at dksL_law_5 16 rfl rfl)
theorem dL_law_216 : decode cL_law 216 = .ok (.iload 5, 2) := dk_21 5 (dk_at dksL_law_5 17 rfl rfl)
theorem dL_law_218 : decode cL_law 218 = .ok (.iconst 2, 1) := dk_5 (dk_at dksL_law_5 19 rfl rfl)
theorem dL_law_219 : decode cL_law 219 = .ok (.iadd, 1) := dk_96 (dk_at dksL_law_5 20 rfl rfl)
theorem dL_law_220 : decode cL_law 220 = .ok (.iaload, 1) := dk_46 (dk_at dksL_law_5 21 rfl rfl)
theorem dL_law_221 : decode cL_law 221 = .ok (.aload_n 0, 1) := dk_42 (dk_at dksL_law_5 22 rfl rfl)
theorem dL_law_222 : decode cL_law 222 = .ok (.iload 5, 2) := dk_21 5 (dk_at dksL_law_6 0 rfl rfl)
theorem dL_law_224 : decode cL_law 224 = .ok (.iconst 3, 1) := dk_6 (dk_at dksL_law_6 2 rfl rfl)
theorem dL_law_225 : decode cL_law 225 = .ok (.iadd, 1) := dk_96 (dk_at dksL_law_6 3 rfl rfl)
theorem dL_law_226 : decode cL_law 226 = .ok (.iaload, 1) := dk_46 (dk_at dksL_law_6 4 rfl rfl)
theorem dL_law_227 : decode cL_law 227 = .ok (.aload_n 0, 1) := dk_42 (dk_at dksL_law_6 5 rfl rfl)
theorem dL_law_228 : decode cL_law 228 = .ok (.iload 5, 2) := dk_21 5 (dk_at dksL_law_6 6 rfl rfl)
theorem dL_law_230 : decode cL_law 230 = .ok (.iconst 4, 1) := dk_7 (dk_at dksL_law_6 8 rfl rfl)
theorem dL_law_231 : decode cL_law 231 = .ok (.iadd, 1) := dk_96 (dk_at dksL_law_6 9 rfl rfl)
theorem dL_law_232 : decode cL_law 232 = .ok (.iaload, 1) := dk_46 (dk_at dksL_law_6 10 rfl rfl)
theorem dL_law_233 : decode cL_law 233 = .ok (.aload_n 0, 1) := dk_42 (dk_at dksL_law_6 11 rfl rfl)
theorem dL_law_234 : decode cL_law 234 = .ok (.iload 5, 2) := dk_21 5 (dk_at dksL_law_6 12 rfl rfl)
theorem dL_law_236 : decode cL_law 236 = .ok (.iconst 5, 1) := dk_8 (dk_at dksL_law_6 14 rfl rfl)
theorem dL_law_237 : decode cL_law 237 = .ok (.iadd, 1) := dk_96 (dk_at dksL_law_6 15 rfl rfl)
theorem dL_law_238 : decode cL_law 238 = .ok (.iaload, 1) := dk_46 (dk_at dksL_law_6 16 rfl rfl)
theorem dL_law_239 : decode cL_law 239 = .ok (.aload_n 0, 1) := dk_42 (dk_at dksL_law_6 17 rfl rfl)
theorem dL_law_240 : decode cL_law 240 = .ok (.iload 5, 2) := dk_21 5 (dk_at dksL_law_6 18 rfl rfl)
theorem dL_law_242 : decode cL_law 242 = .ok (.bipush 6, 2) := dk_16 6 (dk_at dksL_law_6 20 rfl rfl)
theorem dL_law_244 : decode cL_law 244 = .ok (.iadd, 1) := dk_96 (dk_at dksL_law_6 22 rfl rfl)
theorem dL_law_245 : decode cL_law 245 = .ok (.iaload, 1) := dk_46 (dk_at dksL_law_6 23 rfl rfl)
theorem dL_law_246 : decode cL_law 246 = .ok (.aload_n 3, 1) := dk_45 (dk_at dksL_law_7 0 rfl rfl)
theorem dL_law_247 : decode cL_law 247 = .ok (.invokestatic 100, 3) := dk_184 0 100 (dk_at dksL_law_7 1 rfl rfl)
theorem dL_law_250 : decode cL_law 250 = .ok (.istore 6, 2) := dk_54 6 (dk_at dksL_law_7 4 rfl rfl)
theorem dL_law_252 : decode cL_law 252 = .ok (.aload_n 2, 1) := dk_44 (dk_at dksL_law_7 6 rfl rfl)
theorem dL_law_253 : decode cL_law 253 = .ok (.aload_n 0, 1) := dk_42 (dk_at dksL_law_7 7 rfl rfl)
theorem dL_law_254 : decode cL_law 254 = .ok (.iload 5, 2) := dk_21 5 (dk_at dksL_law_7 8 rfl rfl)
theorem dL_law_256 : decode cL_law 256 = .ok (.iconst 1, 1) := dk_4 (dk_at dksL_law_7 10 rfl rfl)
theorem dL_law_257 : decode cL_law 257 = .ok (.iadd, 1) := dk_96 (dk_at dksL_law_7 11 rfl rfl)
theorem dL_law_258 : decode cL_law 258 = .ok (.iaload, 1) := dk_46 (dk_at dksL_law_7 12 rfl rfl)
theorem dL_law_259 : decode cL_law 259 = .ok (.aload_n 0, 1) := dk_42 (dk_at dksL_law_7 13 rfl rfl)
theorem dL_law_260 : decode cL_law 260 = .ok (.iload 5, 2) := dk_21 5 (dk_at dksL_law_7 14 rfl rfl)
theorem dL_law_262 : decode cL_law 262 = .ok (.iconst 2, 1) := dk_5 (dk_at dksL_law_7 16 rfl rfl)
theorem dL_law_263 : decode cL_law 263 = .ok (.iadd, 1) := dk_96 (dk_at dksL_law_7 17 rfl rfl)
theorem dL_law_264 : decode cL_law 264 = .ok (.iaload, 1) := dk_46 (dk_at dksL_law_7 18 rfl rfl)
theorem dL_law_265 : decode cL_law 265 = .ok (.aload_n 0, 1) := dk_42 (dk_at dksL_law_7 19 rfl rfl)
theorem dL_law_266 : decode cL_law 266 = .ok (.iload 5, 2) := dk_21 5 (dk_at dksL_law_7 20 rfl rfl)
theorem dL_law_268 : decode cL_law 268 = .ok (.iconst 3, 1) := dk_6 (dk_at dksL_law_7 22 rfl rfl)
theorem dL_law_269 : decode cL_law 269 = .ok (.iadd, 1) := dk_96 (dk_at dksL_law_7 23 rfl rfl)
theorem dL_law_270 : decode cL_law 270 = .ok (.iaload, 1) := dk_46 (dk_at dksL_law_8 0 rfl rfl)
theorem dL_law_271 : decode cL_law 271 = .ok (.aload_n 0, 1) := dk_42 (dk_at dksL_law_8 1 rfl rfl)
theorem dL_law_272 : decode cL_law 272 = .ok (.iload 5, 2) := dk_21 5 (dk_at dksL_law_8 2 rfl rfl)
theorem dL_law_274 : decode cL_law 274 = .ok (.iconst 4, 1) := dk_7 (dk_at dksL_law_8 4 rfl rfl)
theorem dL_law_275 : decode cL_law 275 = .ok (.iadd, 1) := dk_96 (dk_at dksL_law_8 5 rfl rfl)
theorem dL_law_276 : decode cL_law 276 = .ok (.iaload, 1) := dk_46 (dk_at dksL_law_8 6 rfl rfl)
theorem dL_law_277 : decode cL_law 277 = .ok (.aload_n 0, 1) := dk_42 (dk_at dksL_law_8 7 rfl rfl)
theorem dL_law_278 : decode cL_law 278 = .ok (.iload 5, 2) := dk_21 5 (dk_at dksL_law_8 8 rfl rfl)
theorem dL_law_280 : decode cL_law 280 = .ok (.iconst 5, 1) := dk_8 (dk_at dksL_law_8 10 rfl rfl)
theorem dL_law_281 : decode cL_law 281 = .ok (.iadd, 1) := dk_96 (dk_at dksL_law_8 11 rfl rfl)
theorem dL_law_282 : decode cL_law 282 = .ok (.iaload, 1) := dk_46 (dk_at dksL_law_8 12 rfl rfl)
theorem dL_law_283 : decode cL_law 283 = .ok (.aload_n 0, 1) := dk_42 (dk_at dksL_law_8 13 rfl rfl)
theorem dL_law_284 : decode cL_law 284 = .ok (.iload 5, 2) := dk_21 5 (dk_at dksL_law_8 14 rfl rfl)
theorem dL_law_286 : decode cL_law 286 = .ok (.bipush 6, 2) := dk_16 6 (dk_at dksL_law_8 16 rfl rfl)
theorem dL_law_288 : decode cL_law 288 = .ok (.iadd, 1) := dk_96 (dk_at dksL_law_8 18 rfl rfl)
theorem dL_law_289 : decode cL_law 289 = .ok (.iaload, 1) := dk_46 (dk_at dksL_law_8 19 rfl rfl)
theorem dL_law_290 : decode cL_law 290 = .ok (.invokevirtual 103, 3) := dk_182 0 103 (dk_at dksL_law_8 20 rfl rfl)
theorem dL_law_293 : decode cL_law 293 = .ok (.istore 7, 2) := dk_54 7 (dk_at dksL_law_9 0 rfl rfl)
theorem dL_law_295 : decode cL_law 295 = .ok (.aload_n 2, 1) := dk_44 (dk_at dksL_law_9 2 rfl rfl)
theorem dL_law_296 : decode cL_law 296 = .ok (.invokevirtual 96, 3) := dk_182 0 96 (dk_at dksL_law_9 3 rfl rfl)
theorem dL_law_299 : decode cL_law 299 = .ok (.iload 6, 2) := dk_21 6 (dk_at dksL_law_9 6 rfl rfl)
theorem dL_law_301 : decode cL_law 301 = .ok (.if_icmp .eq 5, 3) := dk_159 0 5 (dk_at dksL_law_9 8 rfl rfl)
theorem dL_law_304 : decode cL_law 304 = .ok (.iconst 0, 1) := dk_3 (dk_at dksL_law_9 11 rfl rfl)
theorem dL_law_305 : decode cL_law 305 = .ok (.ireturn, 1) := dk_172 (dk_at dksL_law_9 12 rfl rfl)
theorem dL_law_306 : decode cL_law 306 = .ok (.iload 6, 2) := dk_21 6 (dk_at dksL_law_9 13 rfl rfl)
theorem dL_law_308 : decode cL_law 308 = .ok (.ifCond .ne 15, 3) := dk_154 0 15 (dk_at dksL_law_9 15 rfl rfl)
theorem dL_law_311 : decode cL_law 311 = .ok (.aload_n 3, 1) := dk_45 (dk_at dksL_law_9 18 rfl rfl)
theorem dL_law_312 : decode cL_law 312 = .ok (.iconst 0, 1) := dk_3 (dk_at dksL_law_9 19 rfl rfl)
theorem dL_law_313 : decode cL_law 313 = .ok (.laload, 1) := dk_47 (dk_at dksL_law_9 20 rfl rfl)
theorem dL_law_314 : decode cL_law 314 = .ok (.iload 7, 2) := dk_21 7 (dk_at dksL_law_9 21 rfl rfl)
theorem dL_law_316 : decode cL_law 316 = .ok (.i2l, 1) := dk_133 (dk_at dksL_law_9 23 rfl rfl)
theorem dL_law_317 : decode cL_law 317 = .ok (.lcmp, 1) := dk_148 (dk_at dksL_law_10 0 rfl rfl)
theorem dL_law_318 : decode cL_law 318 = .ok (.ifCond .eq 5, 3) := dk_153 0 5 (dk_at dksL_law_10 1 rfl rfl)
theorem dL_law_321 : decode cL_law 321 = .ok (.iconst 0, 1) := dk_3 (dk_at dksL_law_10 4 rfl rfl)
theorem dL_law_322 : decode cL_law 322 = .ok (.ireturn, 1) := dk_172 (dk_at dksL_law_10 5 rfl rfl)
theorem dL_law_323 : decode cL_law 323 = .ok (.goto 1483, 3) := dk_167 5 203 (dk_at dksL_law_10 6 rfl rfl)
theorem dL_law_326 : decode cL_law 326 = .ok (.aload_n 1, 1) := dk_43 (dk_at dksL_law_10 9 rfl rfl)
theorem dL_law_327 : decode cL_law 327 = .ok (.aload_n 0, 1) := dk_42 (dk_at dksL_law_10 10 rfl rfl)
theorem dL_law_328 : decode cL_law 328 = .ok (.iload 5, 2) := dk_21 5 (dk_at dksL_law_10 11 rfl rfl)
theorem dL_law_330 : decode cL_law 330 = .ok (.iconst 1, 1) := dk_4 (dk_at dksL_law_10 13 rfl rfl)
theorem dL_law_331 : decode cL_law 331 = .ok (.iadd, 1) := dk_96 (dk_at dksL_law_10 14 rfl rfl)
theorem dL_law_332 : decode cL_law 332 = .ok (.iaload, 1) := dk_46 (dk_at dksL_law_10 15 rfl rfl)
theorem dL_law_333 : decode cL_law 333 = .ok (.aload_n 0, 1) := dk_42 (dk_at dksL_law_10 16 rfl rfl)
theorem dL_law_334 : decode cL_law 334 = .ok (.iload 5, 2) := dk_21 5 (dk_at dksL_law_10 17 rfl rfl)
theorem dL_law_336 : decode cL_law 336 = .ok (.iconst 2, 1) := dk_5 (dk_at dksL_law_10 19 rfl rfl)
theorem dL_law_337 : decode cL_law 337 = .ok (.iadd, 1) := dk_96 (dk_at dksL_law_10 20 rfl rfl)
theorem dL_law_338 : decode cL_law 338 = .ok (.iaload, 1) := dk_46 (dk_at dksL_law_10 21 rfl rfl)
theorem dL_law_339 : decode cL_law 339 = .ok (.aload_n 0, 1) := dk_42 (dk_at dksL_law_10 22 rfl rfl)
theorem dL_law_340 : decode cL_law 340 = .ok (.iload 5, 2) := dk_21 5 (dk_at dksL_law_11 0 rfl rfl)
theorem dL_law_342 : decode cL_law 342 = .ok (.iconst 3, 1) := dk_6 (dk_at dksL_law_11 2 rfl rfl)
theorem dL_law_343 : decode cL_law 343 = .ok (.iadd, 1) := dk_96 (dk_at dksL_law_11 3 rfl rfl)
theorem dL_law_344 : decode cL_law 344 = .ok (.iaload, 1) := dk_46 (dk_at dksL_law_11 4 rfl rfl)
theorem dL_law_345 : decode cL_law 345 = .ok (.aload_n 0, 1) := dk_42 (dk_at dksL_law_11 5 rfl rfl)
theorem dL_law_346 : decode cL_law 346 = .ok (.iload 5, 2) := dk_21 5 (dk_at dksL_law_11 6 rfl rfl)
theorem dL_law_348 : decode cL_law 348 = .ok (.iconst 4, 1) := dk_7 (dk_at dksL_law_11 8 rfl rfl)
theorem dL_law_349 : decode cL_law 349 = .ok (.iadd, 1) := dk_96 (dk_at dksL_law_11 9 rfl rfl)
theorem dL_law_350 : decode cL_law 350 = .ok (.iaload, 1) := dk_46 (dk_at dksL_law_11 10 rfl rfl)
theorem dL_law_351 : decode cL_law 351 = .ok (.aload_n 0, 1) := dk_42 (dk_at dksL_law_11 11 rfl rfl)
theorem dL_law_352 : decode cL_law 352 = .ok (.iload 5, 2) := dk_21 5 (dk_at dksL_law_11 12 rfl rfl)
theorem dL_law_354 : decode cL_law 354 = .ok (.iconst 5, 1) := dk_8 (dk_at dksL_law_11 14 rfl rfl)
theorem dL_law_355 : decode cL_law 355 = .ok (.iadd, 1) := dk_96 (dk_at dksL_law_11 15 rfl rfl)
theorem dL_law_356 : decode cL_law 356 = .ok (.iaload, 1) := dk_46 (dk_at dksL_law_11 16 rfl rfl)
theorem dL_law_357 : decode cL_law 357 = .ok (.aload_n 0, 1) := dk_42 (dk_at dksL_law_11 17 rfl rfl)
theorem dL_law_358 : decode cL_law 358 = .ok (.iload 5, 2) := dk_21 5 (dk_at dksL_law_11 18 rfl rfl)
theorem dL_law_360 : decode cL_law 360 = .ok (.bipush 6, 2) := dk_16 6 (dk_at dksL_law_11 20 rfl rfl)
theorem dL_law_362 : decode cL_law 362 = .ok (.iadd, 1) := dk_96 (dk_at dksL_law_11 22 rfl rfl)
theorem dL_law_363 : decode cL_law 363 = .ok (.iaload, 1) := dk_46 (dk_at dksL_law_11 23 rfl rfl)
theorem dL_law_364 : decode cL_law 364 = .ok (.aload_n 3, 1) := dk_45 (dk_at dksL_law_12 0 rfl rfl)
theorem dL_law_365 : decode cL_law 365 = .ok (.invokestatic 104, 3) := dk_184 0 104 (dk_at dksL_law_12 1 rfl rfl)
theorem dL_law_368 : decode cL_law 368 = .ok (.istore 6, 2) := dk_54 6 (dk_at dksL_law_12 4 rfl rfl)
theorem dL_law_370 : decode cL_law 370 = .ok (.aload_n 2, 1) := dk_44 (dk_at dksL_law_12 6 rfl rfl)
theorem dL_law_371 : decode cL_law 371 = .ok (.aload_n 0, 1) := dk_42 (dk_at dksL_law_12 7 rfl rfl)
theorem dL_law_372 : decode cL_law 372 = .ok (.iload 5, 2) := dk_21 5 (dk_at dksL_law_12 8 rfl rfl)
theorem dL_law_374 : decode cL_law 374 = .ok (.iconst 1, 1) := dk_4 (dk_at dksL_law_12 10 rfl rfl)
theorem dL_law_375 : decode cL_law 375 = .ok (.iadd, 1) := dk_96 (dk_at dksL_law_12 11 rfl rfl)
theorem dL_law_376 : decode cL_law 376 = .ok (.iaload, 1) := dk_46 (dk_at dksL_law_12 12 rfl rfl)
theorem dL_law_377 : decode cL_law 377 = .ok (.aload_n 0, 1) := dk_42 (dk_at dksL_law_12 13 rfl rfl)
theorem dL_law_378 : decode cL_law 378 = .ok (.iload 5, 2) := dk_21 5 (dk_at dksL_law_12 14 rfl rfl)
theorem dL_law_380 : decode cL_law 380 = .ok (.iconst 2, 1) := dk_5 (dk_at dksL_law_12 16 rfl rfl)
theorem dL_law_381 : decode cL_law 381 = .ok (.iadd, 1) := dk_96 (dk_at dksL_law_12 17 rfl rfl)
theorem dL_law_382 : decode cL_law 382 = .ok (.iaload, 1) := dk_46 (dk_at dksL_law_12 18 rfl rfl)
theorem dL_law_383 : decode cL_law 383 = .ok (.aload_n 0, 1) := dk_42 (dk_at dksL_law_12 19 rfl rfl)
theorem dL_law_384 : decode cL_law 384 = .ok (.iload 5, 2) := dk_21 5 (dk_at dksL_law_12 20 rfl rfl)
theorem dL_law_386 : decode cL_law 386 = .ok (.iconst 3, 1) := dk_6 (dk_at dksL_law_12 22 rfl rfl)
theorem dL_law_387 : decode cL_law 387 = .ok (.iadd, 1) := dk_96 (dk_at dksL_law_12 23 rfl rfl)
theorem dL_law_388 : decode cL_law 388 = .ok (.iaload, 1) := dk_46 (dk_at dksL_law_13 0 rfl rfl)
theorem dL_law_389 : decode cL_law 389 = .ok (.aload_n 0, 1) := dk_42 (dk_at dksL_law_13 1 rfl rfl)
theorem dL_law_390 : decode cL_law 390 = .ok (.iload 5, 2) := dk_21 5 (dk_at dksL_law_13 2 rfl rfl)
theorem dL_law_392 : decode cL_law 392 = .ok (.iconst 4, 1) := dk_7 (dk_at dksL_law_13 4 rfl rfl)
theorem dL_law_393 : decode cL_law 393 = .ok (.iadd, 1) := dk_96 (dk_at dksL_law_13 5 rfl rfl)
theorem dL_law_394 : decode cL_law 394 = .ok (.iaload, 1) := dk_46 (dk_at dksL_law_13 6 rfl rfl)
theorem dL_law_395 : decode cL_law 395 = .ok (.aload_n 0, 1) := dk_42 (dk_at dksL_law_13 7 rfl rfl)
theorem dL_law_396 : decode cL_law 396 = .ok (.iload 5, 2) := dk_21 5 (dk_at dksL_law_13 8 rfl rfl)
theorem dL_law_398 : decode cL_law 398 = .ok (.iconst 5, 1) := dk_8 (dk_at dksL_law_13 10 rfl rfl)
theorem dL_law_399 : decode cL_law 399 = .ok (.iadd, 1) := dk_96 (dk_at dksL_law_13 11 rfl rfl)
theorem dL_law_400 : decode cL_law 400 = .ok (.iaload, 1) := dk_46 (dk_at dksL_law_13 12 rfl rfl)
theorem dL_law_401 : decode cL_law 401 = .ok (.aload_n 0, 1) := dk_42 (dk_at dksL_law_13 13 rfl rfl)
theorem dL_law_402 : decode cL_law 402 = .ok (.iload 5, 2) := dk_21 5 (dk_at dksL_law_13 14 rfl rfl)
theorem dL_law_404 : decode cL_law 404 = .ok (.bipush 6, 2) := dk_16 6 (dk_at dksL_law_13 16 rfl rfl)
theorem dL_law_406 : decode cL_law 406 = .ok (.iadd, 1) := dk_96 (dk_at dksL_law_13 18 rfl rfl)
theorem dL_law_407 : decode cL_law 407 = .ok (.iaload, 1) := dk_46 (dk_at dksL_law_13 19 rfl rfl)
theorem dL_law_408 : decode cL_law 408 = .ok (.invokevirtual 106, 3) := dk_182 0 106 (dk_at dksL_law_13 20 rfl rfl)
theorem dL_law_411 : decode cL_law 411 = .ok (.istore 7, 2) := dk_54 7 (dk_at dksL_law_14 0 rfl rfl)
theorem dL_law_413 : decode cL_law 413 = .ok (.aload_n 2, 1) := dk_44 (dk_at dksL_law_14 2 rfl rfl)
theorem dL_law_414 : decode cL_law 414 = .ok (.invokevirtual 96, 3) := dk_182 0 96 (dk_at dksL_law_14 3 rfl rfl)
theorem dL_law_417 : decode cL_law 417 = .ok (.iload 6, 2) := dk_21 6 (dk_at dksL_law_14 6 rfl rfl)
theorem dL_law_419 : decode cL_law 419 = .ok (.if_icmp .eq 5, 3) := dk_159 0 5 (dk_at dksL_law_14 8 rfl rfl)
theorem dL_law_422 : decode cL_law 422 = .ok (.iconst 0, 1) := dk_3 (dk_at dksL_law_14 11 rfl rfl)
theorem dL_law_423 : decode cL_law 423 = .ok (.ireturn, 1) := dk_172 (dk_at dksL_law_14 12 rfl rfl)
theorem dL_law_424 : decode cL_law 424 = .ok (.iload 6, 2) := dk_21 6 (dk_at dksL_law_14 13 rfl rfl)
theorem dL_law_426 : decode cL_law 426 = .ok (.ifCond .ne 22, 3) := dk_154 0 22 (dk_at dksL_law_14 15 rfl rfl)
theorem dL_law_429 : decode cL_law 429 = .ok (.aload_n 3, 1) := dk_45 (dk_at dksL_law_14 18 rfl rfl)
theorem dL_law_430 : decode cL_law 430 = .ok (.iconst 0, 1) := dk_3 (dk_at dksL_law_14 19 rfl rfl)
theorem dL_law_431 : decode cL_law 431 = .ok (.laload, 1) := dk_47 (dk_at dksL_law_14 20 rfl rfl)
theorem dL_law_432 : decode cL_law 432 = .ok (.iload 7, 2) := dk_21 7 (dk_at dksL_law_14 21 rfl rfl)
theorem dL_law_434 : decode cL_law 434 = .ok (.ifCond .eq 7, 3) := dk_153 0 7 (dk_at dksL_law_15 0 rfl rfl)
theorem dL_law_437 : decode cL_law 437 = .ok (.lconst 1, 1) := dk_10 (dk_at dksL_law_15 3 rfl rfl)
theorem dL_law_438 : decode cL_law 438 = .ok (.goto 4, 3) := dk_167 0 4 (dk_at dksL_law_15 4 rfl rfl)
theorem dL_law_441 : decode cL_law 441 = .ok (.lconst 0, 1) := dk_9 (dk_at dksL_law_15 7 rfl rfl)
theorem dL_law_442 : decode cL_law 442 = .ok (.lcmp, 1) := dk_148 (dk_at dksL_law_15 8 rfl rfl)
theorem dL_law_443 : decode cL_law 443 = .ok (.ifCond .eq 5, 3) := dk_153 0 5 (dk_at dksL_law_15 9 rfl rfl)
theorem dL_law_446 : decode cL_law 446 = .ok (.iconst 0, 1) := dk_3 (dk_at dksL_law_15 12 rfl rfl)
theorem dL_law_447 : decode cL_law 447 = .ok (.ireturn, 1) := dk_172 (dk_at dksL_law_15 13 rfl rfl)
theorem dL_law_448 : decode cL_law 448 = .ok (.goto 1358, 3) := dk_167 5 78 (dk_at dksL_law_15 14 rfl rfl)
theorem dL_law_451 : decode cL_law 451 = .ok (.aload_n 1, 1) := dk_43 (dk_at dksL_law_15 17 rfl rfl)
theorem dL_law_452 : decode cL_law 452 = .ok (.aload_n 0, 1) := dk_42 (dk_at dksL_law_15 18 rfl rfl)
theorem dL_law_453 : decode cL_law 453 = .ok (.iload 5, 2) := dk_21 5 (dk_at dksL_law_15 19 rfl rfl)
theorem dL_law_455 : decode cL_law 455 = .ok (.iconst 1, 1) := dk_4 (dk_at dksL_law_15 21 rfl rfl)
theorem dL_law_456 : decode cL_law 456 = .ok (.iadd, 1) := dk_96 (dk_at dksL_law_15 22 rfl rfl)
theorem dL_law_457 : decode cL_law 457 = .ok (.iaload, 1) := dk_46 (dk_at dksL_law_15 23 rfl rfl)
theorem dL_law_458 : decode cL_law 458 = .ok (.aload_n 0, 1) := dk_42 (dk_at dksL_law_16 0 rfl rfl)
theorem dL_law_459 : decode cL_law 459 = .ok (.iload 5, 2) := dk_21 5 (dk_at dksL_law_16 1 rfl rfl)
theorem dL_law_461 : decode cL_law 461 = .ok (.iconst 2, 1) := dk_5 (dk_at dksL_law_16 3 rfl rfl)
theorem dL_law_462 : decode cL_law 462 = .ok (.iadd, 1) := dk_96 (dk_at dksL_law_16 4 rfl rfl)
theorem dL_law_463 : decode cL_law 463 = .ok (.iaload, 1) := dk_46 (dk_at dksL_law_16 5 rfl rfl)
theorem dL_law_464 : decode cL_law 464 = .ok (.aload_n 3, 1) := dk_45 (dk_at dksL_law_16 6 rfl rfl)
theorem dL_law_465 : decode cL_law 465 = .ok (.invokestatic 107, 3) := dk_184 0 107 (dk_at dksL_law_16 7 rfl rfl)
theorem dL_law_468 : decode cL_law 468 = .ok (.istore 6, 2) := dk_54 6 (dk_at dksL_law_16 10 rfl rfl)
theorem dL_law_470 : decode cL_law 470 = .ok (.aload_n 2, 1) := dk_44 (dk_at dksL_law_16 12 rfl rfl)
theorem dL_law_471 : decode cL_law 471 = .ok (.aload_n 0, 1) := dk_42 (dk_at dksL_law_16 13 rfl rfl)
theorem dL_law_472 : decode cL_law 472 = .ok (.iload 5, 2) := dk_21 5 (dk_at dksL_law_16 14 rfl rfl)
theorem dL_law_474 : decode cL_law 474 = .ok (.iconst 1, 1) := dk_4 (dk_at dksL_law_16 16 rfl rfl)
theorem dL_law_475 : decode cL_law 475 = .ok (.iadd, 1) := dk_96 (dk_at dksL_law_16 17 rfl rfl)
theorem dL_law_476 : decode cL_law 476 = .ok (.iaload, 1) := dk_46 (dk_at dksL_law_16 18 rfl rfl)
theorem dL_law_477 : decode cL_law 477 = .ok (.aload_n 0, 1) := dk_42 (dk_at dksL_law_16 19 rfl rfl)
theorem dL_law_478 : decode cL_law 478 = .ok (.iload 5, 2) := dk_21 5 (dk_at dksL_law_16 20 rfl rfl)
theorem dL_law_480 : decode cL_law 480 = .ok (.iconst 2, 1) := dk_5 (dk_at dksL_law_16 22 rfl rfl)
theorem dL_law_481 : decode cL_law 481 = .ok (.iadd, 1) := dk_96 (dk_at dksL_law_16 23 rfl rfl)
theorem dL_law_482 : decode cL_law 482 = .ok (.iaload, 1) := dk_46 (dk_at dksL_law_17 0 rfl rfl)
theorem dL_law_483 : decode cL_law 483 = .ok (.invokevirtual 110, 3) := dk_182 0 110 (dk_at dksL_law_17 1 rfl rfl)
theorem dL_law_486 : decode cL_law 486 = .ok (.istore 7, 2) := dk_54 7 (dk_at dksL_law_17 4 rfl rfl)
theorem dL_law_488 : decode cL_law 488 = .ok (.aload_n 2, 1) := dk_44 (dk_at dksL_law_17 6 rfl rfl)
theorem dL_law_489 : decode cL_law 489 = .ok (.invokevirtual 96, 3) := dk_182 0 96 (dk_at dksL_law_17 7 rfl rfl)
theorem dL_law_492 : decode cL_law 492 = .ok (.iload 6, 2) := dk_21 6 (dk_at dksL_law_17 10 rfl rfl)
theorem dL_law_494 : decode cL_law 494 = .ok (.if_icmp .eq 5, 3) := dk_159 0 5 (dk_at dksL_law_17 12 rfl rfl)
theorem dL_law_497 : decode cL_law 497 = .ok (.iconst 0, 1) := dk_3 (dk_at dksL_law_17 15 rfl rfl)
theorem dL_law_498 : decode cL_law 498 = .ok (.ireturn, 1) := dk_172 (dk_at dksL_law_17 16 rfl rfl)
theorem dL_law_499 : decode cL_law 499 = .ok (.iload 6, 2) := dk_21 6 (dk_at dksL_law_17 17 rfl rfl)
theorem dL_law_501 : decode cL_law 501 = .ok (.ifCond .ne 15, 3) := dk_154 0 15 (dk_at dksL_law_17 19 rfl rfl)
theorem dL_law_504 : decode cL_law 504 = .ok (.aload_n 3, 1) := dk_45 (dk_at dksL_law_17 22 rfl rfl)
theorem dL_law_505 : decode cL_law 505 = .ok (.iconst 0, 1) := dk_3 (dk_at dksL_law_17 23 rfl rfl)
theorem dL_law_506 : decode cL_law 506 = .ok (.laload, 1) := dk_47 (dk_at dksL_law_18 0 rfl rfl)
theorem dL_law_507 : decode cL_law 507 = .ok (.iload 7, 2) := dk_21 7 (dk_at dksL_law_18 1 rfl rfl)
theorem dL_law_509 : decode cL_law 509 = .ok (.i2l, 1) := dk_133 (dk_at dksL_law_18 3 rfl rfl)
theorem dL_law_510 : decode cL_law 510 = .ok (.lcmp, 1) := dk_148 (dk_at dksL_law_18 4 rfl rfl)
theorem dL_law_511 : decode cL_law 511 = .ok (.ifCond .eq 5, 3) := dk_153 0 5 (dk_at dksL_law_18 5 rfl rfl)
theorem dL_law_514 : decode cL_law 514 = .ok (.iconst 0, 1) := dk_3 (dk_at dksL_law_18 8 rfl rfl)
theorem dL_law_515 : decode cL_law 515 = .ok (.ireturn, 1) := dk_172 (dk_at dksL_law_18 9 rfl rfl)
theorem dL_law_516 : decode cL_law 516 = .ok (.goto 1290, 3) := dk_167 5 10 (dk_at dksL_law_18 10 rfl rfl)
theorem dL_law_519 : decode cL_law 519 = .ok (.aload_n 1, 1) := dk_43 (dk_at dksL_law_18 13 rfl rfl)
theorem dL_law_520 : decode cL_law 520 = .ok (.aload_n 0, 1) := dk_42 (dk_at dksL_law_18 14 rfl rfl)
theorem dL_law_521 : decode cL_law 521 = .ok (.iload 5, 2) := dk_21 5 (dk_at dksL_law_18 15 rfl rfl)
theorem dL_law_523 : decode cL_law 523 = .ok (.iconst 1, 1) := dk_4 (dk_at dksL_law_18 17 rfl rfl)
theorem dL_law_524 : decode cL_law 524 = .ok (.iadd, 1) := dk_96 (dk_at dksL_law_18 18 rfl rfl)
theorem dL_law_525 : decode cL_law 525 = .ok (.iaload, 1) := dk_46 (dk_at dksL_law_18 19 rfl rfl)
theorem dL_law_526 : decode cL_law 526 = .ok (.aload_n 0, 1) := dk_42 (dk_at dksL_law_18 20 rfl rfl)
theorem dL_law_527 : decode cL_law 527 = .ok (.iload 5, 2) := dk_21 5 (dk_at dksL_law_18 21 rfl rfl)
theorem dL_law_529 : decode cL_law 529 = .ok (.iconst 2, 1) := dk_5 (dk_at dksL_law_18 23 rfl rfl)
theorem dL_law_530 : decode cL_law 530 = .ok (.iadd, 1) := dk_96 (dk_at dksL_law_19 0 rfl rfl)
theorem dL_law_531 : decode cL_law 531 = .ok (.iaload, 1) := dk_46 (dk_at dksL_law_19 1 rfl rfl)
theorem dL_law_532 : decode cL_law 532 = .ok (.aload_n 0, 1) := dk_42 (dk_at dksL_law_19 2 rfl rfl)
theorem dL_law_533 : decode cL_law 533 = .ok (.iload 5, 2) := dk_21 5 (dk_at dksL_law_19 3 rfl rfl)
theorem dL_law_535 : decode cL_law 535 = .ok (.iconst 3, 1) := dk_6 (dk_at dksL_law_19 5 rfl rfl)
theorem dL_law_536 : decode cL_law 536 = .ok (.iadd, 1) := dk_96 (dk_at dksL_law_19 6 rfl rfl)
theorem dL_law_537 : decode cL_law 537 = .ok (.iaload, 1) := dk_46 (dk_at dksL_law_19 7 rfl rfl)
theorem dL_law_538 : decode cL_law 538 = .ok (.aload_n 3, 1) := dk_45 (dk_at dksL_law_19 8 rfl rfl)
theorem dL_law_539 : decode cL_law 539 = .ok (.invokestatic 111, 3) := dk_184 0 111 (dk_at dksL_law_19 9 rfl rfl)
theorem dL_law_542 : decode cL_law 542 = .ok (.istore 6, 2) := dk_54 6 (dk_at dksL_law_19 12 rfl rfl)
theorem dL_law_544 : decode cL_law 544 = .ok (.aload_n 2, 1) := dk_44 (dk_at dksL_law_19 14 rfl rfl)
theorem dL_law_545 : decode cL_law 545 = .ok (.aload_n 0, 1) := dk_42 (dk_at dksL_law_19 15 rfl rfl)
theorem dL_law_546 : decode cL_law 546 = .ok (.iload 5, 2) := dk_21 5 (dk_at dksL_law_19 16 rfl rfl)
theorem dL_law_548 : decode cL_law 548 = .ok (.iconst 1, 1) := dk_4 (dk_at dksL_law_19 18 rfl rfl)
theorem dL_law_549 : decode cL_law 549 = .ok (.iadd, 1) := dk_96 (dk_at dksL_law_19 19 rfl rfl)
theorem dL_law_550 : decode cL_law 550 = .ok (.iaload, 1) := dk_46 (dk_at dksL_law_19 20 rfl rfl)
theorem dL_law_551 : decode cL_law 551 = .ok (.aload_n 0, 1) := dk_42 (dk_at dksL_law_19 21 rfl rfl)
theorem dL_law_552 : decode cL_law 552 = .ok (.iload 5, 2) := dk_21 5 (dk_at dksL_law_19 22 rfl rfl)
theorem dL_law_554 : decode cL_law 554 = .ok (.iconst 2, 1) := dk_5 (dk_at dksL_law_20 0 rfl rfl)
theorem dL_law_555 : decode cL_law 555 = .ok (.iadd, 1) := dk_96 (dk_at dksL_law_20 1 rfl rfl)
theorem dL_law_556 : decode cL_law 556 = .ok (.iaload, 1) := dk_46 (dk_at dksL_law_20 2 rfl rfl)
theorem dL_law_557 : decode cL_law 557 = .ok (.aload_n 0, 1) := dk_42 (dk_at dksL_law_20 3 rfl rfl)
theorem dL_law_558 : decode cL_law 558 = .ok (.iload 5, 2) := dk_21 5 (dk_at dksL_law_20 4 rfl rfl)
theorem dL_law_560 : decode cL_law 560 = .ok (.iconst 3, 1) := dk_6 (dk_at dksL_law_20 6 rfl rfl)
theorem dL_law_561 : decode cL_law 561 = .ok (.iadd, 1) := dk_96 (dk_at dksL_law_20 7 rfl rfl)
theorem dL_law_562 : decode cL_law 562 = .ok (.iaload, 1) := dk_46 (dk_at dksL_law_20 8 rfl rfl)
theorem dL_law_563 : decode cL_law 563 = .ok (.invokevirtual 114, 3) := dk_182 0 114 (dk_at dksL_law_20 9 rfl rfl)
theorem dL_law_566 : decode cL_law 566 = .ok (.istore 7, 2) := dk_54 7 (dk_at dksL_law_20 12 rfl rfl)
theorem dL_law_568 : decode cL_law 568 = .ok (.aload_n 2, 1) := dk_44 (dk_at dksL_law_20 14 rfl rfl)
theorem dL_law_569 : decode cL_law 569 = .ok (.invokevirtual 96, 3) := dk_182 0 96 (dk_at dksL_law_20 15 rfl rfl)
theorem dL_law_572 : decode cL_law 572 = .ok (.iload 6, 2) := dk_21 6 (dk_at dksL_law_20 18 rfl rfl)
theorem dL_law_574 : decode cL_law 574 = .ok (.if_icmp .eq 5, 3) := dk_159 0 5 (dk_at dksL_law_20 20 rfl rfl)
theorem dL_law_577 : decode cL_law 577 = .ok (.iconst 0, 1) := dk_3 (dk_at dksL_law_20 23 rfl rfl)
theorem dL_law_578 : decode cL_law 578 = .ok (.ireturn, 1) := dk_172 (dk_at dksL_law_21 0 rfl rfl)
theorem dL_law_579 : decode cL_law 579 = .ok (.iload 6, 2) := dk_21 6 (dk_at dksL_law_21 1 rfl rfl)
theorem dL_law_581 : decode cL_law 581 = .ok (.ifCond .ne 15, 3) := dk_154 0 15 (dk_at dksL_law_21 3 rfl rfl)
theorem dL_law_584 : decode cL_law 584 = .ok (.aload_n 3, 1) := dk_45 (dk_at dksL_law_21 6 rfl rfl)
theorem dL_law_585 : decode cL_law 585 = .ok (.iconst 0, 1) := dk_3 (dk_at dksL_law_21 7 rfl rfl)
theorem dL_law_586 : decode cL_law 586 = .ok (.laload, 1) := dk_47 (dk_at dksL_law_21 8 rfl rfl)
theorem dL_law_587 : decode cL_law 587 = .ok (.iload 7, 2) := dk_21 7 (dk_at dksL_law_21 9 rfl rfl)
theorem dL_law_589 : decode cL_law 589 = .ok (.i2l, 1) := dk_133 (dk_at dksL_law_21 11 rfl rfl)
theorem dL_law_590 : decode cL_law 590 = .ok (.lcmp, 1) := dk_148 (dk_at dksL_law_21 12 rfl rfl)
theorem dL_law_591 : decode cL_law 591 = .ok (.ifCond .eq 5, 3) := dk_153 0 5 (dk_at dksL_law_21 13 rfl rfl)
theorem dL_law_594 : decode cL_law 594 = .ok (.iconst 0, 1) := dk_3 (dk_at dksL_law_21 16 rfl rfl)
theorem dL_law_595 : decode cL_law 595 = .ok (.ireturn, 1) := dk_172 (dk_at dksL_law_21 17 rfl rfl)
theorem dL_law_596 : decode cL_law 596 = .ok (.goto 1210, 3) := dk_167 4 186 (dk_at dksL_law_21 18 rfl rfl)
theorem dL_law_599 : decode cL_law 599 = .ok (.aload_n 1, 1) := dk_43 (dk_at dksL_law_21 21 rfl rfl)
theorem dL_law_600 : decode cL_law 600 = .ok (.aload_n 0, 1) := dk_42 (dk_at dksL_law_21 22 rfl rfl)
theorem dL_law_601 : decode cL_law 601 = .ok (.iload 5, 2) := dk_21 5 (dk_at dksL_law_22 0 rfl rfl)
theorem dL_law_603 : decode cL_law 603 = .ok (.iconst 1, 1) := dk_4 (dk_at dksL_law_22 2 rfl rfl)
theorem dL_law_604 : decode cL_law 604 = .ok (.iadd, 1) := dk_96 (dk_at dksL_law_22 3 rfl rfl)
theorem dL_law_605 : decode cL_law 605 = .ok (.iaload, 1) := dk_46 (dk_at dksL_law_22 4 rfl rfl)
theorem dL_law_606 : decode cL_law 606 = .ok (.aload_n 0, 1) := dk_42 (dk_at dksL_law_22 5 rfl rfl)
theorem dL_law_607 : decode cL_law 607 = .ok (.iload 5, 2) := dk_21 5 (dk_at dksL_law_22 6 rfl rfl)
theorem dL_law_609 : decode cL_law 609 = .ok (.iconst 2, 1) := dk_5 (dk_at dksL_law_22 8 rfl rfl)
theorem dL_law_610 : decode cL_law 610 = .ok (.iadd, 1) := dk_96 (dk_at dksL_law_22 9 rfl rfl)
theorem dL_law_611 : decode cL_law 611 = .ok (.iaload, 1) := dk_46 (dk_at dksL_law_22 10 rfl rfl)
theorem dL_law_612 : decode cL_law 612 = .ok (.aload_n 0, 1) := dk_42 (dk_at dksL_law_22 11 rfl rfl)
theorem dL_law_613 : decode cL_law 613 = .ok (.iload 5, 2) := dk_21 5 (dk_at dksL_law_22 12 rfl rfl)
theorem dL_law_615 : decode cL_law 615 = .ok (.iconst 3, 1) := dk_6 (dk_at dksL_law_22 14 rfl rfl)
theorem dL_law_616 : decode cL_law 616 = .ok (.iadd, 1) := dk_96 (dk_at dksL_law_22 15 rfl rfl)
theorem dL_law_617 : decode cL_law 617 = .ok (.iaload, 1) := dk_46 (dk_at dksL_law_22 16 rfl rfl)
theorem dL_law_618 : decode cL_law 618 = .ok (.aload_n 0, 1) := dk_42 (dk_at dksL_law_22 17 rfl rfl)
theorem dL_law_619 : decode cL_law 619 = .ok (.iload 5, 2) := dk_21 5 (dk_at dksL_law_22 18 rfl rfl)
theorem dL_law_621 : decode cL_law 621 = .ok (.iconst 4, 1) := dk_7 (dk_at dksL_law_22 20 rfl rfl)
theorem dL_law_622 : decode cL_law 622 = .ok (.iadd, 1) := dk_96 (dk_at dksL_law_22 21 rfl rfl)
theorem dL_law_623 : decode cL_law 623 = .ok (.iaload, 1) := dk_46 (dk_at dksL_law_22 22 rfl rfl)
theorem dL_law_624 : decode cL_law 624 = .ok (.aload_n 3, 1) := dk_45 (dk_at dksL_law_22 23 rfl rfl)
theorem dL_law_625 : decode cL_law 625 = .ok (.invokestatic 115, 3) := dk_184 0 115 (dk_at dksL_law_23 0 rfl rfl)
theorem dL_law_628 : decode cL_law 628 = .ok (.istore 6, 2) := dk_54 6 (dk_at dksL_law_23 3 rfl rfl)
theorem dL_law_630 : decode cL_law 630 = .ok (.aload_n 2, 1) := dk_44 (dk_at dksL_law_23 5 rfl rfl)
theorem dL_law_631 : decode cL_law 631 = .ok (.aload_n 0, 1) := dk_42 (dk_at dksL_law_23 6 rfl rfl)
theorem dL_law_632 : decode cL_law 632 = .ok (.iload 5, 2) := dk_21 5 (dk_at dksL_law_23 7 rfl rfl)
theorem dL_law_634 : decode cL_law 634 = .ok (.iconst 1, 1) := dk_4 (dk_at dksL_law_23 9 rfl rfl)
theorem dL_law_635 : decode cL_law 635 = .ok (.iadd, 1) := dk_96 (dk_at dksL_law_23 10 rfl rfl)
theorem dL_law_636 : decode cL_law 636 = .ok (.iaload, 1) := dk_46 (dk_at dksL_law_23 11 rfl rfl)
theorem dL_law_637 : decode cL_law 637 = .ok (.aload_n 0, 1) := dk_42 (dk_at dksL_law_23 12 rfl rfl)
theorem dL_law_638 : decode cL_law 638 = .ok (.iload 5, 2) := dk_21 5 (dk_at dksL_law_23 13 rfl rfl)
theorem dL_law_640 : decode cL_law 640 = .ok (.iconst 2, 1) := dk_5 (dk_at dksL_law_23 15 rfl rfl)
theorem dL_law_641 : decode cL_law 641 = .ok (.iadd, 1) := dk_96 (dk_at dksL_law_23 16 rfl rfl)
theorem dL_law_642 : decode cL_law 642 = .ok (.iaload, 1) := dk_46 (dk_at dksL_law_23 17 rfl rfl)
theorem dL_law_643 : decode cL_law 643 = .ok (.aload_n 0, 1) := dk_42 (dk_at dksL_law_23 18 rfl rfl)
theorem dL_law_644 : decode cL_law 644 = .ok (.iload 5, 2) := dk_21 5 (dk_at dksL_law_23 19 rfl rfl)
theorem dL_law_646 : decode cL_law 646 = .ok (.iconst 3, 1) := dk_6 (dk_at dksL_law_23 21 rfl rfl)
theorem dL_law_647 : decode cL_law 647 = .ok (.iadd, 1) := dk_96 (dk_at dksL_law_23 22 rfl rfl)
theorem dL_law_648 : decode cL_law 648 = .ok (.iaload, 1) := dk_46 (dk_at dksL_law_23 23 rfl rfl)
theorem dL_law_649 : decode cL_law 649 = .ok (.aload_n 0, 1) := dk_42 (dk_at dksL_law_24 0 rfl rfl)
theorem dL_law_650 : decode cL_law 650 = .ok (.iload 5, 2) := dk_21 5 (dk_at dksL_law_24 1 rfl rfl)
theorem dL_law_652 : decode cL_law 652 = .ok (.iconst 4, 1) := dk_7 (dk_at dksL_law_24 3 rfl rfl)
theorem dL_law_653 : decode cL_law 653 = .ok (.iadd, 1) := dk_96 (dk_at dksL_law_24 4 rfl rfl)
theorem dL_law_654 : decode cL_law 654 = .ok (.iaload, 1) := dk_46 (dk_at dksL_law_24 5 rfl rfl)
theorem dL_law_655 : decode cL_law 655 = .ok (.invokevirtual 118, 3) := dk_182 0 118 (dk_at dksL_law_24 6 rfl rfl)
theorem dL_law_658 : decode cL_law 658 = .ok (.istore 7, 2) := dk_54 7 (dk_at dksL_law_24 9 rfl rfl)
theorem dL_law_660 : decode cL_law 660 = .ok (.aload_n 2, 1) := dk_44 (dk_at dksL_law_24 11 rfl rfl)
theorem dL_law_661 : decode cL_law 661 = .ok (.invokevirtual 96, 3) := dk_182 0 96 (dk_at dksL_law_24 12 rfl rfl)
theorem dL_law_664 : decode cL_law 664 = .ok (.iload 6, 2) := dk_21 6 (dk_at dksL_law_24 15 rfl rfl)
theorem dL_law_666 : decode cL_law 666 = .ok (.if_icmp .eq 5, 3) := dk_159 0 5 (dk_at dksL_law_24 17 rfl rfl)
theorem dL_law_669 : decode cL_law 669 = .ok (.iconst 0, 1) := dk_3 (dk_at dksL_law_24 20 rfl rfl)
theorem dL_law_670 : decode cL_law 670 = .ok (.ireturn, 1) := dk_172 (dk_at dksL_law_24 21 rfl rfl)
theorem dL_law_671 : decode cL_law 671 = .ok (.iload 6, 2) := dk_21 6 (dk_at dksL_law_24 22 rfl rfl)
theorem dL_law_673 : decode cL_law 673 = .ok (.ifCond .ne 22, 3) := dk_154 0 22 (dk_at dksL_law_25 0 rfl rfl)
theorem dL_law_676 : decode cL_law 676 = .ok (.aload_n 3, 1) := dk_45 (dk_at dksL_law_25 3 rfl rfl)
theorem dL_law_677 : decode cL_law 677 = .ok (.iconst 0, 1) := dk_3 (dk_at dksL_law_25 4 rfl rfl)
theorem dL_law_678 : decode cL_law 678 = .ok (.laload, 1) := dk_47 (dk_at dksL_law_25 5 rfl rfl)
theorem dL_law_679 : decode cL_law 679 = .ok (.iload 7, 2) := dk_21 7 (dk_at dksL_law_25 6 rfl rfl)
theorem dL_law_681 : decode cL_law 681 = .ok (.ifCond .eq 7, 3) := dk_153 0 7 (dk_at dksL_law_25 8 rfl rfl)
theorem dL_law_684 : decode cL_law 684 = .ok (.lconst 1, 1) := dk_10 (dk_at dksL_law_25 11 rfl rfl)
theorem dL_law_685 : decode cL_law 685 = .ok (.goto 4, 3) := dk_167 0 4 (dk_at dksL_law_25 12 rfl rfl)
theorem dL_law_688 : decode cL_law 688 = .ok (.lconst 0, 1) := dk_9 (dk_at dksL_law_25 15 rfl rfl)
theorem dL_law_689 : decode cL_law 689 = .ok (.lcmp, 1) := dk_148 (dk_at dksL_law_25 16 rfl rfl)
theorem dL_law_690 : decode cL_law 690 = .ok (.ifCond .eq 5, 3) := dk_153 0 5 (dk_at dksL_law_25 17 rfl rfl)
theorem dL_law_693 : decode cL_law 693 = .ok (.iconst 0, 1) := dk_3 (dk_at dksL_law_25 20 rfl rfl)
theorem dL_law_694 : decode cL_law 694 = .ok (.ireturn, 1) := dk_172 (dk_at dksL_law_25 21 rfl rfl)
theorem dL_law_695 : decode cL_law 695 = .ok (.goto 1111, 3) := dk_167 4 87 (dk_at dksL_law_26 0 rfl rfl)
theorem dL_law_698 : decode cL_law 698 = .ok (.aload_n 1, 1) := dk_43 (dk_at dksL_law_26 3 rfl rfl)
theorem dL_law_699 : decode cL_law 699 = .ok (.aload_n 0, 1) := dk_42 (dk_at dksL_law_26 4 rfl rfl)
theorem dL_law_700 : decode cL_law 700 = .ok (.iload 5, 2) := dk_21 5 (dk_at dksL_law_26 5 rfl rfl)
theorem dL_law_702 : decode cL_law 702 = .ok (.iconst 1, 1) := dk_4 (dk_at dksL_law_26 7 rfl rfl)
theorem dL_law_703 : decode cL_law 703 = .ok (.iadd, 1) := dk_96 (dk_at dksL_law_26 8 rfl rfl)
theorem dL_law_704 : decode cL_law 704 = .ok (.iaload, 1) := dk_46 (dk_at dksL_law_26 9 rfl rfl)
theorem dL_law_705 : decode cL_law 705 = .ok (.aload_n 3, 1) := dk_45 (dk_at dksL_law_26 10 rfl rfl)
theorem dL_law_706 : decode cL_law 706 = .ok (.invokestatic 119, 3) := dk_184 0 119 (dk_at dksL_law_26 11 rfl rfl)
theorem dL_law_709 : decode cL_law 709 = .ok (.istore 6, 2) := dk_54 6 (dk_at dksL_law_26 14 rfl rfl)
theorem dL_law_711 : decode cL_law 711 = .ok (.aload_n 2, 1) := dk_44 (dk_at dksL_law_26 16 rfl rfl)
theorem dL_law_712 : decode cL_law 712 = .ok (.aload_n 0, 1) := dk_42 (dk_at dksL_law_26 17 rfl rfl)
theorem dL_law_713 : decode cL_law 713 = .ok (.iload 5, 2) := dk_21 5 (dk_at dksL_law_26 18 rfl rfl)
theorem dL_law_715 : decode cL_law 715 = .ok (.iconst 1, 1) := dk_4 (dk_at dksL_law_26 20 rfl rfl)
theorem dL_law_716 : decode cL_law 716 = .ok (.iadd, 1) := dk_96 (dk_at dksL_law_26 21 rfl rfl)
theorem dL_law_717 : decode cL_law 717 = .ok (.iaload, 1) := dk_46 (dk_at dksL_law_26 22 rfl rfl)
theorem dL_law_718 : decode cL_law 718 = .ok (.invokevirtual 121, 3) := dk_182 0 121 (dk_at dksL_law_27 0 rfl rfl)
theorem dL_law_721 : decode cL_law 721 = .ok (.istore 7, 2) := dk_54 7 (dk_at dksL_law_27 3 rfl rfl)
theorem dL_law_723 : decode cL_law 723 = .ok (.aload_n 2, 1) := dk_44 (dk_at dksL_law_27 5 rfl rfl)
theorem dL_law_724 : decode cL_law 724 = .ok (.invokevirtual 96, 3) := dk_182 0 96 (dk_at dksL_law_27 6 rfl rfl)
theorem dL_law_727 : decode cL_law 727 = .ok (.iload 6, 2) := dk_21 6 (dk_at dksL_law_27 9 rfl rfl)
theorem dL_law_729 : decode cL_law 729 = .ok (.if_icmp .eq 5, 3) := dk_159 0 5 (dk_at dksL_law_27 11 rfl rfl)
theorem dL_law_732 : decode cL_law 732 = .ok (.iconst 0, 1) := dk_3 (dk_at dksL_law_27 14 rfl rfl)
theorem dL_law_733 : decode cL_law 733 = .ok (.ireturn, 1) := dk_172 (dk_at dksL_law_27 15 rfl rfl)
theorem dL_law_734 : decode cL_law 734 = .ok (.iload 6, 2) := dk_21 6 (dk_at dksL_law_27 16 rfl rfl)
theorem dL_law_736 : decode cL_law 736 = .ok (.ifCond .ne 15, 3) := dk_154 0 15 (dk_at dksL_law_27 18 rfl rfl)
theorem dL_law_739 : decode cL_law 739 = .ok (.aload_n 3, 1) := dk_45 (dk_at dksL_law_27 21 rfl rfl)
theorem dL_law_740 : decode cL_law 740 = .ok (.iconst 0, 1) := dk_3 (dk_at dksL_law_27 22 rfl rfl)
theorem dL_law_741 : decode cL_law 741 = .ok (.laload, 1) := dk_47 (dk_at dksL_law_27 23 rfl rfl)
theorem dL_law_742 : decode cL_law 742 = .ok (.iload 7, 2) := dk_21 7 (dk_at dksL_law_28 0 rfl rfl)
theorem dL_law_744 : decode cL_law 744 = .ok (.i2l, 1) := dk_133 (dk_at dksL_law_28 2 rfl rfl)
theorem dL_law_745 : decode cL_law 745 = .ok (.lcmp, 1) := dk_148 (dk_at dksL_law_28 3 rfl rfl)
theorem dL_law_746 : decode cL_law 746 = .ok (.ifCond .eq 5, 3) := dk_153 0 5 (dk_at dksL_law_28 4 rfl rfl)
theorem dL_law_749 : decode cL_law 749 = .ok (.iconst 0, 1) := dk_3 (dk_at dksL_law_28 7 rfl rfl)
theorem dL_law_750 : decode cL_law 750 = .ok (.ireturn, 1) := dk_172 (dk_at dksL_law_28 8 rfl rfl)
theorem dL_law_751 : decode cL_law 751 = .ok (.goto 1055, 3) := dk_167 4 31 (dk_at dksL_law_28 9 rfl rfl)
theorem dL_law_754 : decode cL_law 754 = .ok (.aload_n 1, 1) := dk_43 (dk_at dksL_law_28 12 rfl rfl)
theorem dL_law_755 : decode cL_law 755 = .ok (.aload_n 0, 1) := dk_42 (dk_at dksL_law_28 13 rfl rfl)
theorem dL_law_756 : decode cL_law 756 = .ok (.iload 5, 2) := dk_21 5 (dk_at dksL_law_28 14 rfl rfl)
theorem dL_law_758 : decode cL_law 758 = .ok (.iconst 1, 1) := dk_4 (dk_at dksL_law_28 16 rfl rfl)
theorem dL_law_759 : decode cL_law 759 = .ok (.iadd, 1) := dk_96 (dk_at dksL_law_28 17 rfl rfl)
theorem dL_law_760 : decode cL_law 760 = .ok (.iaload, 1) := dk_46 (dk_at dksL_law_28 18 rfl rfl)
theorem dL_law_761 : decode cL_law 761 = .ok (.aload_n 3, 1) := dk_45 (dk_at dksL_law_28 19 rfl rfl)
theorem dL_law_762 : decode cL_law 762 = .ok (.invokestatic 122, 3) := dk_184 0 122 (dk_at dksL_law_28 20 rfl rfl)
theorem dL_law_765 : decode cL_law 765 = .ok (.istore 6, 2) := dk_54 6 (dk_at dksL_law_29 0 rfl rfl)
theorem dL_law_767 : decode cL_law 767 = .ok (.aload_n 2, 1) := dk_44 (dk_at dksL_law_29 2 rfl rfl)
theorem dL_law_768 : decode cL_law 768 = .ok (.aload_n 0, 1) := dk_42 (dk_at dksL_law_29 3 rfl rfl)
theorem dL_law_769 : decode cL_law 769 = .ok (.iload 5, 2) := dk_21 5 (dk_at dksL_law_29 4 rfl rfl)
theorem dL_law_771 : decode cL_law 771 = .ok (.iconst 1, 1) := dk_4 (dk_at dksL_law_29 6 rfl rfl)
theorem dL_law_772 : decode cL_law 772 = .ok (.iadd, 1) := dk_96 (dk_at dksL_law_29 7 rfl rfl)
theorem dL_law_773 : decode cL_law 773 = .ok (.iaload, 1) := dk_46 (dk_at dksL_law_29 8 rfl rfl)
theorem dL_law_774 : decode cL_law 774 = .ok (.invokevirtual 124, 3) := dk_182 0 124 (dk_at dksL_law_29 9 rfl rfl)
theorem dL_law_777 : decode cL_law 777 = .ok (.istore 7, 2) := dk_54 7 (dk_at dksL_law_29 12 rfl rfl)
theorem dL_law_779 : decode cL_law 779 = .ok (.aload_n 2, 1) := dk_44 (dk_at dksL_law_29 14 rfl rfl)
theorem dL_law_780 : decode cL_law 780 = .ok (.invokevirtual 96, 3) := dk_182 0 96 (dk_at dksL_law_29 15 rfl rfl)
theorem dL_law_783 : decode cL_law 783 = .ok (.iload 6, 2) := dk_21 6 (dk_at dksL_law_29 18 rfl rfl)
theorem dL_law_785 : decode cL_law 785 = .ok (.if_icmp .eq 5, 3) := dk_159 0 5 (dk_at dksL_law_29 20 rfl rfl)
theorem dL_law_788 : decode cL_law 788 = .ok (.iconst 0, 1) := dk_3 (dk_at dksL_law_29 23 rfl rfl)
theorem dL_law_789 : decode cL_law 789 = .ok (.ireturn, 1) := dk_172 (dk_at dksL_law_30 0 rfl rfl)
theorem dL_law_790 : decode cL_law 790 = .ok (.iload 6, 2) := dk_21 6 (dk_at dksL_law_30 1 rfl rfl)
theorem dL_law_792 : decode cL_law 792 = .ok (.ifCond .ne 15, 3) := dk_154 0 15 (dk_at dksL_law_30 3 rfl rfl)
theorem dL_law_795 : decode cL_law 795 = .ok (.aload_n 3, 1) := dk_45 (dk_at dksL_law_30 6 rfl rfl)
theorem dL_law_796 : decode cL_law 796 = .ok (.iconst 0, 1) := dk_3 (dk_at dksL_law_30 7 rfl rfl)
theorem dL_law_797 : decode cL_law 797 = .ok (.laload, 1) := dk_47 (dk_at dksL_law_30 8 rfl rfl)
theorem dL_law_798 : decode cL_law 798 = .ok (.iload 7, 2) := dk_21 7 (dk_at dksL_law_30 9 rfl rfl)
theorem dL_law_800 : decode cL_law 800 = .ok (.i2l, 1) := dk_133 (dk_at dksL_law_30 11 rfl rfl)
theorem dL_law_801 : decode cL_law 801 = .ok (.lcmp, 1) := dk_148 (dk_at dksL_law_30 12 rfl rfl)
theorem dL_law_802 : decode cL_law 802 = .ok (.ifCond .eq 5, 3) := dk_153 0 5 (dk_at dksL_law_30 13 rfl rfl)
theorem dL_law_805 : decode cL_law 805 = .ok (.iconst 0, 1) := dk_3 (dk_at dksL_law_30 16 rfl rfl)
theorem dL_law_806 : decode cL_law 806 = .ok (.ireturn, 1) := dk_172 (dk_at dksL_law_30 17 rfl rfl)
theorem dL_law_807 : decode cL_law 807 = .ok (.goto 999, 3) := dk_167 3 231 (dk_at dksL_law_30 18 rfl rfl)
theorem dL_law_810 : decode cL_law 810 = .ok (.aload_n 1, 1) := dk_43 (dk_at dksL_law_30 21 rfl rfl)
theorem dL_law_811 : decode cL_law 811 = .ok (.aload_n 0, 1) := dk_42 (dk_at dksL_law_30 22 rfl rfl)
theorem dL_law_812 : decode cL_law 812 = .ok (.iload 5, 2) := dk_21 5 (dk_at dksL_law_31 0 rfl rfl)
theorem dL_law_814 : decode cL_law 814 = .ok (.iconst 1, 1) := dk_4 (dk_at dksL_law_31 2 rfl rfl)
theorem dL_law_815 : decode cL_law 815 = .ok (.iadd, 1) := dk_96 (dk_at dksL_law_31 3 rfl rfl)
theorem dL_law_816 : decode cL_law 816 = .ok (.iaload, 1) := dk_46 (dk_at dksL_law_31 4 rfl rfl)
theorem dL_law_817 : decode cL_law 817 = .ok (.aload_n 0, 1) := dk_42 (dk_at dksL_law_31 5 rfl rfl)
theorem dL_law_818 : decode cL_law 818 = .ok (.iload 5, 2) := dk_21 5 (dk_at dksL_law_31 6 rfl rfl)
theorem dL_law_820 : decode cL_law 820 = .ok (.iconst 2, 1) := dk_5 (dk_at dksL_law_31 8 rfl rfl)
theorem dL_law_821 : decode cL_law 821 = .ok (.iadd, 1) := dk_96 (dk_at dksL_law_31 9 rfl rfl)
theorem dL_law_822 : decode cL_law 822 = .ok (.iaload, 1) := dk_46 (dk_at dksL_law_31 10 rfl rfl)
theorem dL_law_823 : decode cL_law 823 = .ok (.aload_n 0, 1) := dk_42 (dk_at dksL_law_31 11 rfl rfl)
theorem dL_law_824 : decode cL_law 824 = .ok (.iload 5, 2) := dk_21 5 (dk_at dksL_law_31 12 rfl rfl)
theorem dL_law_826 : decode cL_law 826 = .ok (.iconst 3, 1) := dk_6 (dk_at dksL_law_31 14 rfl rfl)
theorem dL_law_827 : decode cL_law 827 = .ok (.iadd, 1) := dk_96 (dk_at dksL_law_31 15 rfl rfl)
theorem dL_law_828 : decode cL_law 828 = .ok (.iaload, 1) := dk_46 (dk_at dksL_law_31 16 rfl rfl)
theorem dL_law_829 : decode cL_law 829 = .ok (.aload_n 0, 1) := dk_42 (dk_at dksL_law_31 17 rfl rfl)
theorem dL_law_830 : decode cL_law 830 = .ok (.iload 5, 2) := dk_21 5 (dk_at dksL_law_31 18 rfl rfl)
theorem dL_law_832 : decode cL_law 832 = .ok (.iconst 4, 1) := dk_7 (dk_at dksL_law_31 20 rfl rfl)
theorem dL_law_833 : decode cL_law 833 = .ok (.iadd, 1) := dk_96 (dk_at dksL_law_31 21 rfl rfl)
theorem dL_law_834 : decode cL_law 834 = .ok (.iaload, 1) := dk_46 (dk_at dksL_law_31 22 rfl rfl)
theorem dL_law_835 : decode cL_law 835 = .ok (.aload_n 3, 1) := dk_45 (dk_at dksL_law_31 23 rfl rfl)
theorem dL_law_836 : decode cL_law 836 = .ok (.invokestatic 125, 3) := dk_184 0 125 (dk_at dksL_law_32 0 rfl rfl)
theorem dL_law_839 : decode cL_law 839 = .ok (.istore 6, 2) := dk_54 6 (dk_at dksL_law_32 3 rfl rfl)
theorem dL_law_841 : decode cL_law 841 = .ok (.aload_n 2, 1) := dk_44 (dk_at dksL_law_32 5 rfl rfl)
theorem dL_law_842 : decode cL_law 842 = .ok (.aload_n 0, 1) := dk_42 (dk_at dksL_law_32 6 rfl rfl)
theorem dL_law_843 : decode cL_law 843 = .ok (.iload 5, 2) := dk_21 5 (dk_at dksL_law_32 7 rfl rfl)
theorem dL_law_845 : decode cL_law 845 = .ok (.iconst 1, 1) := dk_4 (dk_at dksL_law_32 9 rfl rfl)
theorem dL_law_846 : decode cL_law 846 = .ok (.iadd, 1) := dk_96 (dk_at dksL_law_32 10 rfl rfl)
theorem dL_law_847 : decode cL_law 847 = .ok (.iaload, 1) := dk_46 (dk_at dksL_law_32 11 rfl rfl)
theorem dL_law_848 : decode cL_law 848 = .ok (.aload_n 0, 1) := dk_42 (dk_at dksL_law_32 12 rfl rfl)
theorem dL_law_849 : decode cL_law 849 = .ok (.iload 5, 2) := dk_21 5 (dk_at dksL_law_32 13 rfl rfl)
theorem dL_law_851 : decode cL_law 851 = .ok (.iconst 2, 1) := dk_5 (dk_at dksL_law_32 15 rfl rfl)
theorem dL_law_852 : decode cL_law 852 = .ok (.iadd, 1) := dk_96 (dk_at dksL_law_32 16 rfl rfl)
theorem dL_law_853 : decode cL_law 853 = .ok (.iaload, 1) := dk_46 (dk_at dksL_law_32 17 rfl rfl)
theorem dL_law_854 : decode cL_law 854 = .ok (.aload_n 0, 1) := dk_42 (dk_at dksL_law_32 18 rfl rfl)
theorem dL_law_855 : decode cL_law 855 = .ok (.iload 5, 2) := dk_21 5 (dk_at dksL_law_32 19 rfl rfl)
theorem dL_law_857 : decode cL_law 857 = .ok (.iconst 3, 1) := dk_6 (dk_at dksL_law_32 21 rfl rfl)
theorem dL_law_858 : decode cL_law 858 = .ok (.iadd, 1) := dk_96 (dk_at dksL_law_32 22 rfl rfl)
theorem dL_law_859 : decode cL_law 859 = .ok (.iaload, 1) := dk_46 (dk_at dksL_law_32 23 rfl rfl)
theorem dL_law_860 : decode cL_law 860 = .ok (.aload_n 0, 1) := dk_42 (dk_at dksL_law_33 0 rfl rfl)
theorem dL_law_861 : decode cL_law 861 = .ok (.iload 5, 2) := dk_21 5 (dk_at dksL_law_33 1 rfl rfl)
theorem dL_law_863 : decode cL_law 863 = .ok (.iconst 4, 1) := dk_7 (dk_at dksL_law_33 3 rfl rfl)
theorem dL_law_864 : decode cL_law 864 = .ok (.iadd, 1) := dk_96 (dk_at dksL_law_33 4 rfl rfl)
theorem dL_law_865 : decode cL_law 865 = .ok (.iaload, 1) := dk_46 (dk_at dksL_law_33 5 rfl rfl)
theorem dL_law_866 : decode cL_law 866 = .ok (.invokevirtual 127, 3) := dk_182 0 127 (dk_at dksL_law_33 6 rfl rfl)
theorem dL_law_869 : decode cL_law 869 = .ok (.istore 7, 2) := dk_54 7 (dk_at dksL_law_33 9 rfl rfl)
theorem dL_law_871 : decode cL_law 871 = .ok (.aload_n 2, 1) := dk_44 (dk_at dksL_law_33 11 rfl rfl)
theorem dL_law_872 : decode cL_law 872 = .ok (.invokevirtual 96, 3) := dk_182 0 96 (dk_at dksL_law_33 12 rfl rfl)
theorem dL_law_875 : decode cL_law 875 = .ok (.iload 6, 2) := dk_21 6 (dk_at dksL_law_33 15 rfl rfl)
theorem dL_law_877 : decode cL_law 877 = .ok (.if_icmp .eq 5, 3) := dk_159 0 5 (dk_at dksL_law_33 17 rfl rfl)
theorem dL_law_880 : decode cL_law 880 = .ok (.iconst 0, 1) := dk_3 (dk_at dksL_law_33 20 rfl rfl)
theorem dL_law_881 : decode cL_law 881 = .ok (.ireturn, 1) := dk_172 (dk_at dksL_law_33 21 rfl rfl)
theorem dL_law_882 : decode cL_law 882 = .ok (.iload 6, 2) := dk_21 6 (dk_at dksL_law_33 22 rfl rfl)
theorem dL_law_884 : decode cL_law 884 = .ok (.ifCond .ne 15, 3) := dk_154 0 15 (dk_at dksL_law_34 0 rfl rfl)
theorem dL_law_887 : decode cL_law 887 = .ok (.aload_n 3, 1) := dk_45 (dk_at dksL_law_34 3 rfl rfl)
theorem dL_law_888 : decode cL_law 888 = .ok (.iconst 0, 1) := dk_3 (dk_at dksL_law_34 4 rfl rfl)
theorem dL_law_889 : decode cL_law 889 = .ok (.laload, 1) := dk_47 (dk_at dksL_law_34 5 rfl rfl)
theorem dL_law_890 : decode cL_law 890 = .ok (.iload 7, 2) := dk_21 7 (dk_at dksL_law_34 6 rfl rfl)
theorem dL_law_892 : decode cL_law 892 = .ok (.i2l, 1) := dk_133 (dk_at dksL_law_34 8 rfl rfl)
theorem dL_law_893 : decode cL_law 893 = .ok (.lcmp, 1) := dk_148 (dk_at dksL_law_34 9 rfl rfl)
theorem dL_law_894 : decode cL_law 894 = .ok (.ifCond .eq 5, 3) := dk_153 0 5 (dk_at dksL_law_34 10 rfl rfl)
theorem dL_law_897 : decode cL_law 897 = .ok (.iconst 0, 1) := dk_3 (dk_at dksL_law_34 13 rfl rfl)
theorem dL_law_898 : decode cL_law 898 = .ok (.ireturn, 1) := dk_172 (dk_at dksL_law_34 14 rfl rfl)
theorem dL_law_899 : decode cL_law 899 = .ok (.goto 907, 3) := dk_167 3 139 (dk_at dksL_law_34 15 rfl rfl)
theorem dL_law_902 : decode cL_law 902 = .ok (.aload_n 1, 1) := dk_43 (dk_at dksL_law_34 18 rfl rfl)
theorem dL_law_903 : decode cL_law 903 = .ok (.aload_n 0, 1) := dk_42 (dk_at dksL_law_34 19 rfl rfl)
theorem dL_law_904 : decode cL_law 904 = .ok (.iload 5, 2) := dk_21 5 (dk_at dksL_law_34 20 rfl rfl)
theorem dL_law_906 : decode cL_law 906 = .ok (.iconst 1, 1) := dk_4 (dk_at dksL_law_34 22 rfl rfl)
theorem dL_law_907 : decode cL_law 907 = .ok (.iadd, 1) := dk_96 (dk_at dksL_law_34 23 rfl rfl)
theorem dL_law_908 : decode cL_law 908 = .ok (.iaload, 1) := dk_46 (dk_at dksL_law_35 0 rfl rfl)
theorem dL_law_909 : decode cL_law 909 = .ok (.aload_n 0, 1) := dk_42 (dk_at dksL_law_35 1 rfl rfl)
theorem dL_law_910 : decode cL_law 910 = .ok (.iload 5, 2) := dk_21 5 (dk_at dksL_law_35 2 rfl rfl)
theorem dL_law_912 : decode cL_law 912 = .ok (.iconst 2, 1) := dk_5 (dk_at dksL_law_35 4 rfl rfl)
theorem dL_law_913 : decode cL_law 913 = .ok (.iadd, 1) := dk_96 (dk_at dksL_law_35 5 rfl rfl)
theorem dL_law_914 : decode cL_law 914 = .ok (.iaload, 1) := dk_46 (dk_at dksL_law_35 6 rfl rfl)
theorem dL_law_915 : decode cL_law 915 = .ok (.aload_n 3, 1) := dk_45 (dk_at dksL_law_35 7 rfl rfl)
theorem dL_law_916 : decode cL_law 916 = .ok (.invokestatic 128, 3) := dk_184 0 128 (dk_at dksL_law_35 8 rfl rfl)
theorem dL_law_919 : decode cL_law 919 = .ok (.istore 6, 2) := dk_54 6 (dk_at dksL_law_35 11 rfl rfl)
theorem dL_law_921 : decode cL_law 921 = .ok (.aload_n 2, 1) := dk_44 (dk_at dksL_law_35 13 rfl rfl)
theorem dL_law_922 : decode cL_law 922 = .ok (.aload_n 0, 1) := dk_42 (dk_at dksL_law_35 14 rfl rfl)
theorem dL_law_923 : decode cL_law 923 = .ok (.iload 5, 2) := dk_21 5 (dk_at dksL_law_35 15 rfl rfl)
theorem dL_law_925 : decode cL_law 925 = .ok (.iconst 1, 1) := dk_4 (dk_at dksL_law_35 17 rfl rfl)
theorem dL_law_926 : decode cL_law 926 = .ok (.iadd, 1) := dk_96 (dk_at dksL_law_35 18 rfl rfl)
theorem dL_law_927 : decode cL_law 927 = .ok (.iaload, 1) := dk_46 (dk_at dksL_law_35 19 rfl rfl)
theorem dL_law_928 : decode cL_law 928 = .ok (.aload_n 0, 1) := dk_42 (dk_at dksL_law_35 20 rfl rfl)
theorem dL_law_929 : decode cL_law 929 = .ok (.iload 5, 2) := dk_21 5 (dk_at dksL_law_35 21 rfl rfl)
theorem dL_law_931 : decode cL_law 931 = .ok (.iconst 2, 1) := dk_5 (dk_at dksL_law_35 23 rfl rfl)
theorem dL_law_932 : decode cL_law 932 = .ok (.iadd, 1) := dk_96 (dk_at dksL_law_36 0 rfl rfl)
theorem dL_law_933 : decode cL_law 933 = .ok (.iaload, 1) := dk_46 (dk_at dksL_law_36 1 rfl rfl)
theorem dL_law_934 : decode cL_law 934 = .ok (.invokevirtual 130, 3) := dk_182 0 130 (dk_at dksL_law_36 2 rfl rfl)
theorem dL_law_937 : decode cL_law 937 = .ok (.istore 7, 2) := dk_54 7 (dk_at dksL_law_36 5 rfl rfl)
theorem dL_law_939 : decode cL_law 939 = .ok (.aload_n 2, 1) := dk_44 (dk_at dksL_law_36 7 rfl rfl)
theorem dL_law_940 : decode cL_law 940 = .ok (.invokevirtual 96, 3) := dk_182 0 96 (dk_at dksL_law_36 8 rfl rfl)
theorem dL_law_943 : decode cL_law 943 = .ok (.iload 6, 2) := dk_21 6 (dk_at dksL_law_36 11 rfl rfl)
theorem dL_law_945 : decode cL_law 945 = .ok (.if_icmp .eq 5, 3) := dk_159 0 5 (dk_at dksL_law_36 13 rfl rfl)
theorem dL_law_948 : decode cL_law 948 = .ok (.iconst 0, 1) := dk_3 (dk_at dksL_law_36 16 rfl rfl)
theorem dL_law_949 : decode cL_law 949 = .ok (.ireturn, 1) := dk_172 (dk_at dksL_law_36 17 rfl rfl)
theorem dL_law_950 : decode cL_law 950 = .ok (.iload 6, 2) := dk_21 6 (dk_at dksL_law_36 18 rfl rfl)
theorem dL_law_952 : decode cL_law 952 = .ok (.ifCond .ne 15, 3) := dk_154 0 15 (dk_at dksL_law_36 20 rfl rfl)
theorem dL_law_955 : decode cL_law 955 = .ok (.aload_n 3, 1) := dk_45 (dk_at dksL_law_36 23 rfl rfl)
theorem dL_law_956 : decode cL_law 956 = .ok (.iconst 0, 1) := dk_3 (dk_at dksL_law_37 0 rfl rfl)
theorem dL_law_957 : decode cL_law 957 = .ok (.laload, 1) := dk_47 (dk_at dksL_law_37 1 rfl rfl)
theorem dL_law_958 : decode cL_law 958 = .ok (.iload 7, 2) := dk_21 7 (dk_at dksL_law_37 2 rfl rfl)
theorem dL_law_960 : decode cL_law 960 = .ok (.i2l, 1) := dk_133 (dk_at dksL_law_37 4 rfl rfl)
theorem dL_law_961 : decode cL_law 961 = .ok (.lcmp, 1) := dk_148 (dk_at dksL_law_37 5 rfl rfl)
theorem dL_law_962 : decode cL_law 962 = .ok (.ifCond .eq 5, 3) := dk_153 0 5 (dk_at dksL_law_37 6 rfl rfl)
theorem dL_law_965 : decode cL_law 965 = .ok (.iconst 0, 1) := dk_3 (dk_at dksL_law_37 9 rfl rfl)
theorem dL_law_966 : decode cL_law 966 = .ok (.ireturn, 1) := dk_172 (dk_at dksL_law_37 10 rfl rfl)
theorem dL_law_967 : decode cL_law 967 = .ok (.goto 839, 3) := dk_167 3 71 (dk_at dksL_law_37 11 rfl rfl)
theorem dL_law_970 : decode cL_law 970 = .ok (.aload_n 1, 1) := dk_43 (dk_at dksL_law_37 14 rfl rfl)
theorem dL_law_971 : decode cL_law 971 = .ok (.aload_n 0, 1) := dk_42 (dk_at dksL_law_37 15 rfl rfl)
theorem dL_law_972 : decode cL_law 972 = .ok (.iload 5, 2) := dk_21 5 (dk_at dksL_law_37 16 rfl rfl)
theorem dL_law_974 : decode cL_law 974 = .ok (.iconst 1, 1) := dk_4 (dk_at dksL_law_37 18 rfl rfl)
theorem dL_law_975 : decode cL_law 975 = .ok (.iadd, 1) := dk_96 (dk_at dksL_law_37 19 rfl rfl)
theorem dL_law_976 : decode cL_law 976 = .ok (.iaload, 1) := dk_46 (dk_at dksL_law_37 20 rfl rfl)
theorem dL_law_977 : decode cL_law 977 = .ok (.aload_n 0, 1) := dk_42 (dk_at dksL_law_37 21 rfl rfl)
theorem dL_law_978 : decode cL_law 978 = .ok (.iload 5, 2) := dk_21 5 (dk_at dksL_law_37 22 rfl rfl)
theorem dL_law_980 : decode cL_law 980 = .ok (.iconst 2, 1) := dk_5 (dk_at dksL_law_38 0 rfl rfl)
theorem dL_law_981 : decode cL_law 981 = .ok (.iadd, 1) := dk_96 (dk_at dksL_law_38 1 rfl rfl)
theorem dL_law_982 : decode cL_law 982 = .ok (.iaload, 1) := dk_46 (dk_at dksL_law_38 2 rfl rfl)
theorem dL_law_983 : decode cL_law 983 = .ok (.aload_n 0, 1) := dk_42 (dk_at dksL_law_38 3 rfl rfl)
theorem dL_law_984 : decode cL_law 984 = .ok (.iload 5, 2) := dk_21 5 (dk_at dksL_law_38 4 rfl rfl)
theorem dL_law_986 : decode cL_law 986 = .ok (.iconst 3, 1) := dk_6 (dk_at dksL_law_38 6 rfl rfl)
theorem dL_law_987 : decode cL_law 987 = .ok (.iadd, 1) := dk_96 (dk_at dksL_law_38 7 rfl rfl)
theorem dL_law_988 : decode cL_law 988 = .ok (.iaload, 1) := dk_46 (dk_at dksL_law_38 8 rfl rfl)
theorem dL_law_989 : decode cL_law 989 = .ok (.aload_n 3, 1) := dk_45 (dk_at dksL_law_38 9 rfl rfl)
theorem dL_law_990 : decode cL_law 990 = .ok (.invokestatic 131, 3) := dk_184 0 131 (dk_at dksL_law_38 10 rfl rfl)
theorem dL_law_993 : decode cL_law 993 = .ok (.istore 6, 2) := dk_54 6 (dk_at dksL_law_38 13 rfl rfl)
theorem dL_law_995 : decode cL_law 995 = .ok (.aload_n 2, 1) := dk_44 (dk_at dksL_law_38 15 rfl rfl)
theorem dL_law_996 : decode cL_law 996 = .ok (.aload_n 0, 1) := dk_42 (dk_at dksL_law_38 16 rfl rfl)
theorem dL_law_997 : decode cL_law 997 = .ok (.iload 5, 2) := dk_21 5 (dk_at dksL_law_38 17 rfl rfl)
theorem dL_law_999 : decode cL_law 999 = .ok (.iconst 1, 1) := dk_4 (dk_at dksL_law_38 19 rfl rfl)
theorem dL_law_1000 : decode cL_law 1000 = .ok (.iadd, 1) := dk_96 (dk_at dksL_law_38 20 rfl rfl)
theorem dL_law_1001 : decode cL_law 1001 = .ok (.iaload, 1) := dk_46 (dk_at dksL_law_38 21 rfl rfl)
theorem dL_law_1002 : decode cL_law 1002 = .ok (.aload_n 0, 1) := dk_42 (dk_at dksL_law_38 22 rfl rfl)
theorem dL_law_1003 : decode cL_law 1003 = .ok (.iload 5, 2) := dk_21 5 (dk_at dksL_law_39 0 rfl rfl)
theorem dL_law_1005 : decode cL_law 1005 = .ok (.iconst 2, 1) := dk_5 (dk_at dksL_law_39 2 rfl rfl)
theorem dL_law_1006 : decode cL_law 1006 = .ok (.iadd, 1) := dk_96 (dk_at dksL_law_39 3 rfl rfl)
theorem dL_law_1007 : decode cL_law 1007 = .ok (.iaload, 1) := dk_46 (dk_at dksL_law_39 4 rfl rfl)
theorem dL_law_1008 : decode cL_law 1008 = .ok (.aload_n 0, 1) := dk_42 (dk_at dksL_law_39 5 rfl rfl)
theorem dL_law_1009 : decode cL_law 1009 = .ok (.iload 5, 2) := dk_21 5 (dk_at dksL_law_39 6 rfl rfl)
theorem dL_law_1011 : decode cL_law 1011 = .ok (.iconst 3, 1) := dk_6 (dk_at dksL_law_39 8 rfl rfl)
theorem dL_law_1012 : decode cL_law 1012 = .ok (.iadd, 1) := dk_96 (dk_at dksL_law_39 9 rfl rfl)
theorem dL_law_1013 : decode cL_law 1013 = .ok (.iaload, 1) := dk_46 (dk_at dksL_law_39 10 rfl rfl)
theorem dL_law_1014 : decode cL_law 1014 = .ok (.invokevirtual 133, 3) := dk_182 0 133 (dk_at dksL_law_39 11 rfl rfl)
theorem dL_law_1017 : decode cL_law 1017 = .ok (.istore 7, 2) := dk_54 7 (dk_at dksL_law_39 14 rfl rfl)
theorem dL_law_1019 : decode cL_law 1019 = .ok (.aload_n 2, 1) := dk_44 (dk_at dksL_law_39 16 rfl rfl)
theorem dL_law_1020 : decode cL_law 1020 = .ok (.invokevirtual 96, 3) := dk_182 0 96 (dk_at dksL_law_39 17 rfl rfl)
theorem dL_law_1023 : decode cL_law 1023 = .ok (.iload 6, 2) := dk_21 6 (dk_at dksL_law_39 20 rfl rfl)
theorem dL_law_1025 : decode cL_law 1025 = .ok (.if_icmp .eq 5, 3) := dk_159 0 5 (dk_at dksL_law_40 0 rfl rfl)
theorem dL_law_1028 : decode cL_law 1028 = .ok (.iconst 0, 1) := dk_3 (dk_at dksL_law_40 3 rfl rfl)
theorem dL_law_1029 : decode cL_law 1029 = .ok (.ireturn, 1) := dk_172 (dk_at dksL_law_40 4 rfl rfl)
theorem dL_law_1030 : decode cL_law 1030 = .ok (.iload 6, 2) := dk_21 6 (dk_at dksL_law_40 5 rfl rfl)
theorem dL_law_1032 : decode cL_law 1032 = .ok (.ifCond .ne 15, 3) := dk_154 0 15 (dk_at dksL_law_40 7 rfl rfl)
theorem dL_law_1035 : decode cL_law 1035 = .ok (.aload_n 3, 1) := dk_45 (dk_at dksL_law_40 10 rfl rfl)
theorem dL_law_1036 : decode cL_law 1036 = .ok (.iconst 0, 1) := dk_3 (dk_at dksL_law_40 11 rfl rfl)
theorem dL_law_1037 : decode cL_law 1037 = .ok (.laload, 1) := dk_47 (dk_at dksL_law_40 12 rfl rfl)
theorem dL_law_1038 : decode cL_law 1038 = .ok (.iload 7, 2) := dk_21 7 (dk_at dksL_law_40 13 rfl rfl)
theorem dL_law_1040 : decode cL_law 1040 = .ok (.i2l, 1) := dk_133 (dk_at dksL_law_40 15 rfl rfl)
theorem dL_law_1041 : decode cL_law 1041 = .ok (.lcmp, 1) := dk_148 (dk_at dksL_law_40 16 rfl rfl)
theorem dL_law_1042 : decode cL_law 1042 = .ok (.ifCond .eq 5, 3) := dk_153 0 5 (dk_at dksL_law_40 17 rfl rfl)
theorem dL_law_1045 : decode cL_law 1045 = .ok (.iconst 0, 1) := dk_3 (dk_at dksL_law_40 20 rfl rfl)
theorem dL_law_1046 : decode cL_law 1046 = .ok (.ireturn, 1) := dk_172 (dk_at dksL_law_40 21 rfl rfl)
theorem dL_law_1047 : decode cL_law 1047 = .ok (.goto 759, 3) := dk_167 2 247 (dk_at dksL_law_41 0 rfl rfl)
theorem dL_law_1050 : decode cL_law 1050 = .ok (.aload_n 1, 1) := dk_43 (dk_at dksL_law_41 3 rfl rfl)
theorem dL_law_1051 : decode cL_law 1051 = .ok (.aload_n 0, 1) := dk_42 (dk_at dksL_law_41 4 rfl rfl)
theorem dL_law_1052 : decode cL_law 1052 = .ok (.iload 5, 2) := dk_21 5 (dk_at dksL_law_41 5 rfl rfl)
theorem dL_law_1054 : decode cL_law 1054 = .ok (.iconst 1, 1) := dk_4 (dk_at dksL_law_41 7 rfl rfl)
theorem dL_law_1055 : decode cL_law 1055 = .ok (.iadd, 1) := dk_96 (dk_at dksL_law_41 8 rfl rfl)
theorem dL_law_1056 : decode cL_law 1056 = .ok (.iaload, 1) := dk_46 (dk_at dksL_law_41 9 rfl rfl)
theorem dL_law_1057 : decode cL_law 1057 = .ok (.aload_n 0, 1) := dk_42 (dk_at dksL_law_41 10 rfl rfl)
theorem dL_law_1058 : decode cL_law 1058 = .ok (.iload 5, 2) := dk_21 5 (dk_at dksL_law_41 11 rfl rfl)
theorem dL_law_1060 : decode cL_law 1060 = .ok (.iconst 2, 1) := dk_5 (dk_at dksL_law_41 13 rfl rfl)
theorem dL_law_1061 : decode cL_law 1061 = .ok (.iadd, 1) := dk_96 (dk_at dksL_law_41 14 rfl rfl)
theorem dL_law_1062 : decode cL_law 1062 = .ok (.iaload, 1) := dk_46 (dk_at dksL_law_41 15 rfl rfl)
theorem dL_law_1063 : decode cL_law 1063 = .ok (.aload_n 0, 1) := dk_42 (dk_at dksL_law_41 16 rfl rfl)
theorem dL_law_1064 : decode cL_law 1064 = .ok (.iload 5, 2) := dk_21 5 (dk_at dksL_law_41 17 rfl rfl)
theorem dL_law_1066 : decode cL_law 1066 = .ok (.iconst 3, 1) := dk_6 (dk_at dksL_law_41 19 rfl rfl)
theorem dL_law_1067 : decode cL_law 1067 = .ok (.iadd, 1) := dk_96 (dk_at dksL_law_41 20 rfl rfl)
theorem dL_law_1068 : decode cL_law 1068 = .ok (.iaload, 1) := dk_46 (dk_at dksL_law_41 21 rfl rfl)
theorem dL_law_1069 : decode cL_law 1069 = .ok (.aload_n 3, 1) := dk_45 (dk_at dksL_law_41 22 rfl rfl)
theorem dL_law_1070 : decode cL_law 1070 = .ok (.invokestatic 134, 3) := dk_184 0 134 (dk_at dksL_law_42 0 rfl rfl)
theorem dL_law_1073 : decode cL_law 1073 = .ok (.istore 6, 2) := dk_54 6 (dk_at dksL_law_42 3 rfl rfl)
theorem dL_law_1075 : decode cL_law 1075 = .ok (.aload_n 2, 1) := dk_44 (dk_at dksL_law_42 5 rfl rfl)
theorem dL_law_1076 : decode cL_law 1076 = .ok (.aload_n 0, 1) := dk_42 (dk_at dksL_law_42 6 rfl rfl)
theorem dL_law_1077 : decode cL_law 1077 = .ok (.iload 5, 2) := dk_21 5 (dk_at dksL_law_42 7 rfl rfl)
theorem dL_law_1079 : decode cL_law 1079 = .ok (.iconst 1, 1) := dk_4 (dk_at dksL_law_42 9 rfl rfl)
theorem dL_law_1080 : decode cL_law 1080 = .ok (.iadd, 1) := dk_96 (dk_at dksL_law_42 10 rfl rfl)
theorem dL_law_1081 : decode cL_law 1081 = .ok (.iaload, 1) := dk_46 (dk_at dksL_law_42 11 rfl rfl)
theorem dL_law_1082 : decode cL_law 1082 = .ok (.aload_n 0, 1) := dk_42 (dk_at dksL_law_42 12 rfl rfl)
theorem dL_law_1083 : decode cL_law 1083 = .ok (.iload 5, 2) := dk_21 5 (dk_at dksL_law_42 13 rfl rfl)
theorem dL_law_1085 : decode cL_law 1085 = .ok (.iconst 2, 1) := dk_5 (dk_at dksL_law_42 15 rfl rfl)
theorem dL_law_1086 : decode cL_law 1086 = .ok (.iadd, 1) := dk_96 (dk_at dksL_law_42 16 rfl rfl)
theorem dL_law_1087 : decode cL_law 1087 = .ok (.iaload, 1) := dk_46 (dk_at dksL_law_42 17 rfl rfl)
theorem dL_law_1088 : decode cL_law 1088 = .ok (.aload_n 0, 1) := dk_42 (dk_at dksL_law_42 18 rfl rfl)
theorem dL_law_1089 : decode cL_law 1089 = .ok (.iload 5, 2) := dk_21 5 (dk_at dksL_law_42 19 rfl rfl)
theorem dL_law_1091 : decode cL_law 1091 = .ok (.iconst 3, 1) := dk_6 (dk_at dksL_law_42 21 rfl rfl)
theorem dL_law_1092 : decode cL_law 1092 = .ok (.iadd, 1) := dk_96 (dk_at dksL_law_42 22 rfl rfl)
theorem dL_law_1093 : decode cL_law 1093 = .ok (.iaload, 1) := dk_46 (dk_at dksL_law_42 23 rfl rfl)
theorem dL_law_1094 : decode cL_law 1094 = .ok (.invokevirtual 136, 3) := dk_182 0 136 (dk_at dksL_law_43 0 rfl rfl)
theorem dL_law_1097 : decode cL_law 1097 = .ok (.istore 7, 2) := dk_54 7 (dk_at dksL_law_43 3 rfl rfl)
theorem dL_law_1099 : decode cL_law 1099 = .ok (.aload_n 2, 1) := dk_44 (dk_at dksL_law_43 5 rfl rfl)
theorem dL_law_1100 : decode cL_law 1100 = .ok (.invokevirtual 96, 3) := dk_182 0 96 (dk_at dksL_law_43 6 rfl rfl)
theorem dL_law_1103 : decode cL_law 1103 = .ok (.iload 6, 2) := dk_21 6 (dk_at dksL_law_43 9 rfl rfl)
theorem dL_law_1105 : decode cL_law 1105 = .ok (.if_icmp .eq 5, 3) := dk_159 0 5 (dk_at dksL_law_43 11 rfl rfl)
theorem dL_law_1108 : decode cL_law 1108 = .ok (.iconst 0, 1) := dk_3 (dk_at dksL_law_43 14 rfl rfl)
theorem dL_law_1109 : decode cL_law 1109 = .ok (.ireturn, 1) := dk_172 (dk_at dksL_law_43 15 rfl rfl)
theorem dL_law_1110 : decode cL_law 1110 = .ok (.iload 6, 2) := dk_21 6 (dk_at dksL_law_43 16 rfl rfl)
theorem dL_law_1112 : decode cL_law 1112 = .ok (.ifCond .ne 15, 3) := dk_154 0 15 (dk_at dksL_law_43 18 rfl rfl)
theorem dL_law_1115 : decode cL_law 1115 = .ok (.aload_n 3, 1) := dk_45 (dk_at dksL_law_43 21 rfl rfl)
theorem dL_law_1116 : decode cL_law 1116 = .ok (.iconst 0, 1) := dk_3 (dk_at dksL_law_43 22 rfl rfl)
theorem dL_law_1117 : decode cL_law 1117 = .ok (.laload, 1) := dk_47 (dk_at dksL_law_43 23 rfl rfl)
theorem dL_law_1118 : decode cL_law 1118 = .ok (.iload 7, 2) := dk_21 7 (dk_at dksL_law_44 0 rfl rfl)
theorem dL_law_1120 : decode cL_law 1120 = .ok (.i2l, 1) := dk_133 (dk_at dksL_law_44 2 rfl rfl)
theorem dL_law_1121 : decode cL_law 1121 = .ok (.lcmp, 1) := dk_148 (dk_at dksL_law_44 3 rfl rfl)
theorem dL_law_1122 : decode cL_law 1122 = .ok (.ifCond .eq 5, 3) := dk_153 0 5 (dk_at dksL_law_44 4 rfl rfl)
theorem dL_law_1125 : decode cL_law 1125 = .ok (.iconst 0, 1) := dk_3 (dk_at dksL_law_44 7 rfl rfl)
theorem dL_law_1126 : decode cL_law 1126 = .ok (.ireturn, 1) := dk_172 (dk_at dksL_law_44 8 rfl rfl)
theorem dL_law_1127 : decode cL_law 1127 = .ok (.goto 679, 3) := dk_167 2 167 (dk_at dksL_law_44 9 rfl rfl)
theorem dL_law_1130 : decode cL_law 1130 = .ok (.aload_n 1, 1) := dk_43 (dk_at dksL_law_44 12 rfl rfl)
theorem dL_law_1131 : decode cL_law 1131 = .ok (.aload_n 0, 1) := dk_42 (dk_at dksL_law_44 13 rfl rfl)
theorem dL_law_1132 : decode cL_law 1132 = .ok (.iload 5, 2) := dk_21 5 (dk_at dksL_law_44 14 rfl rfl)
theorem dL_law_1134 : decode cL_law 1134 = .ok (.iconst 1, 1) := dk_4 (dk_at dksL_law_44 16 rfl rfl)
theorem dL_law_1135 : decode cL_law 1135 = .ok (.iadd, 1) := dk_96 (dk_at dksL_law_44 17 rfl rfl)
theorem dL_law_1136 : decode cL_law 1136 = .ok (.iaload, 1) := dk_46 (dk_at dksL_law_44 18 rfl rfl)
theorem dL_law_1137 : decode cL_law 1137 = .ok (.aload_n 0, 1) := dk_42 (dk_at dksL_law_44 19 rfl rfl)
theorem dL_law_1138 : decode cL_law 1138 = .ok (.iload 5, 2) := dk_21 5 (dk_at dksL_law_44 20 rfl rfl)
theorem dL_law_1140 : decode cL_law 1140 = .ok (.iconst 2, 1) := dk_5 (dk_at dksL_law_44 22 rfl rfl)
theorem dL_law_1141 : decode cL_law 1141 = .ok (.iadd, 1) := dk_96 (dk_at dksL_law_44 23 rfl rfl)
theorem dL_law_1142 : decode cL_law 1142 = .ok (.iaload, 1) := dk_46 (dk_at dksL_law_45 0 rfl rfl)
theorem dL_law_1143 : decode cL_law 1143 = .ok (.aload 4, 2) := dk_25 4 (dk_at dksL_law_45 1 rfl rfl)
theorem dL_law_1145 : decode cL_law 1145 = .ok (.invokestatic 137, 3) := dk_184 0 137 (dk_at dksL_law_45 3 rfl rfl)
theorem dL_law_1148 : decode cL_law 1148 = .ok (.istore 6, 2) := dk_54 6 (dk_at dksL_law_45 6 rfl rfl)
theorem dL_law_1150 : decode cL_law 1150 = .ok (.aload_n 2, 1) := dk_44 (dk_at dksL_law_45 8 rfl rfl)
theorem dL_law_1151 : decode cL_law 1151 = .ok (.aload_n 0, 1) := dk_42 (dk_at dksL_law_45 9 rfl rfl)
theorem dL_law_1152 : decode cL_law 1152 = .ok (.iload 5, 2) := dk_21 5 (dk_at dksL_law_45 10 rfl rfl)
theorem dL_law_1154 : decode cL_law 1154 = .ok (.iconst 1, 1) := dk_4 (dk_at dksL_law_45 12 rfl rfl)
theorem dL_law_1155 : decode cL_law 1155 = .ok (.iadd, 1) := dk_96 (dk_at dksL_law_45 13 rfl rfl)
theorem dL_law_1156 : decode cL_law 1156 = .ok (.iaload, 1) := dk_46 (dk_at dksL_law_45 14 rfl rfl)
theorem dL_law_1157 : decode cL_law 1157 = .ok (.aload_n 0, 1) := dk_42 (dk_at dksL_law_45 15 rfl rfl)
theorem dL_law_1158 : decode cL_law 1158 = .ok (.iload 5, 2) := dk_21 5 (dk_at dksL_law_45 16 rfl rfl)
theorem dL_law_1160 : decode cL_law 1160 = .ok (.iconst 2, 1) := dk_5 (dk_at dksL_law_45 18 rfl rfl)
theorem dL_law_1161 : decode cL_law 1161 = .ok (.iadd, 1) := dk_96 (dk_at dksL_law_45 19 rfl rfl)
theorem dL_law_1162 : decode cL_law 1162 = .ok (.iaload, 1) := dk_46 (dk_at dksL_law_45 20 rfl rfl)
theorem dL_law_1163 : decode cL_law 1163 = .ok (.invokevirtual 140, 3) := dk_182 0 140 (dk_at dksL_law_45 21 rfl rfl)
theorem dL_law_1166 : decode cL_law 1166 = .ok (.dstore 7, 2) := dk_57 7 (dk_at dksL_law_46 0 rfl rfl)
theorem dL_law_1168 : decode cL_law 1168 = .ok (.aload_n 2, 1) := dk_44 (dk_at dksL_law_46 2 rfl rfl)
theorem dL_law_1169 : decode cL_law 1169 = .ok (.invokevirtual 96, 3) := dk_182 0 96 (dk_at dksL_law_46 3 rfl rfl)
theorem dL_law_1172 : decode cL_law 1172 = .ok (.iload 6, 2) := dk_21 6 (dk_at dksL_law_46 6 rfl rfl)
theorem dL_law_1174 : decode cL_law 1174 = .ok (.if_icmp .eq 5, 3) := dk_159 0 5 (dk_at dksL_law_46 8 rfl rfl)
theorem dL_law_1177 : decode cL_law 1177 = .ok (.iconst 0, 1) := dk_3 (dk_at dksL_law_46 11 rfl rfl)
theorem dL_law_1178 : decode cL_law 1178 = .ok (.ireturn, 1) := dk_172 (dk_at dksL_law_46 12 rfl rfl)
theorem dL_law_1179 : decode cL_law 1179 = .ok (.iload 6, 2) := dk_21 6 (dk_at dksL_law_46 13 rfl rfl)
theorem dL_law_1181 : decode cL_law 1181 = .ok (.ifCond .ne 35, 3) := dk_154 0 35 (dk_at dksL_law_46 15 rfl rfl)
theorem dL_law_1184 : decode cL_law 1184 = .ok (.aload 4, 2) := dk_25 4 (dk_at dksL_law_46 18 rfl rfl)
theorem dL_law_1186 : decode cL_law 1186 = .ok (.iconst 0, 1) := dk_3 (dk_at dksL_law_46 20 rfl rfl)
theorem dL_law_1187 : decode cL_law 1187 = .ok (.daload, 1) := dk_49 (dk_at dksL_law_46 21 rfl rfl)
theorem dL_law_1188 : decode cL_law 1188 = .ok (.dload 7, 2) := dk_24 7 (dk_at dksL_law_46 22 rfl rfl)
theorem dL_law_1190 : decode cL_law 1190 = .ok (.dcmp .l, 1) := dk_151 (dk_at dksL_law_47 0 rfl rfl)
theorem dL_law_1191 : decode cL_law 1191 = .ok (.ifCond .eq 25, 3) := dk_153 0 25 (dk_at dksL_law_47 1 rfl rfl)
theorem dL_law_1194 : decode cL_law 1194 = .ok (.aload 4, 2) := dk_25 4 (dk_at dksL_law_47 4 rfl rfl)
theorem dL_law_1196 : decode cL_law 1196 = .ok (.iconst 0, 1) := dk_3 (dk_at dksL_law_47 6 rfl rfl)
theorem dL_law_1197 : decode cL_law 1197 = .ok (.daload, 1) := dk_49 (dk_at dksL_law_47 7 rfl rfl)
theorem dL_law_1198 : decode cL_law 1198 = .ok (.aload 4, 2) := dk_25 4 (dk_at dksL_law_47 8 rfl rfl)
theorem dL_law_1200 : decode cL_law 1200 = .ok (.iconst 0, 1) := dk_3 (dk_at dksL_law_47 10 rfl rfl)
theorem dL_law_1201 : decode cL_law 1201 = .ok (.daload, 1) := dk_49 (dk_at dksL_law_47 11 rfl rfl)
theorem dL_law_1202 : decode cL_law 1202 = .ok (.dcmp .l, 1) := dk_151 (dk_at dksL_law_47 12 rfl rfl)
theorem dL_law_1203 : decode cL_law 1203 = .ok (.ifCond .eq 11, 3) := dk_153 0 11 (dk_at dksL_law_47 13 rfl rfl)
theorem dL_law_1206 : decode cL_law 1206 = .ok (.dload 7, 2) := dk_24 7 (dk_at dksL_law_47 16 rfl rfl)
theorem dL_law_1208 : decode cL_law 1208 = .ok (.dload 7, 2) := dk_24 7 (dk_at dksL_law_47 18 rfl rfl)
theorem dL_law_1210 : decode cL_law 1210 = .ok (.dcmp .l, 1) := dk_151 (dk_at dksL_law_47 20 rfl rfl)
theorem dL_law_1211 : decode cL_law 1211 = .ok (.ifCond .ne 5, 3) := dk_154 0 5 (dk_at dksL_law_47 21 rfl rfl)
theorem dL_law_1214 : decode cL_law 1214 = .ok (.iconst 0, 1) := dk_3 (dk_at dksL_law_48 0 rfl rfl)
theorem dL_law_1215 : decode cL_law 1215 = .ok (.ireturn, 1) := dk_172 (dk_at dksL_law_48 1 rfl rfl)
theorem dL_law_1216 : decode cL_law 1216 = .ok (.goto 590, 3) := dk_167 2 78 (dk_at dksL_law_48 2 rfl rfl)
theorem dL_law_1219 : decode cL_law 1219 = .ok (.aload_n 1, 1) := dk_43 (dk_at dksL_law_48 5 rfl rfl)
theorem dL_law_1220 : decode cL_law 1220 = .ok (.aload_n 0, 1) := dk_42 (dk_at dksL_law_48 6 rfl rfl)
theorem dL_law_1221 : decode cL_law 1221 = .ok (.iload 5, 2) := dk_21 5 (dk_at dksL_law_48 7 rfl rfl)
theorem dL_law_1223 : decode cL_law 1223 = .ok (.iconst 1, 1) := dk_4 (dk_at dksL_law_48 9 rfl rfl)
theorem dL_law_1224 : decode cL_law 1224 = .ok (.iadd, 1) := dk_96 (dk_at dksL_law_48 10 rfl rfl)
theorem dL_law_1225 : decode cL_law 1225 = .ok (.iaload, 1) := dk_46 (dk_at dksL_law_48 11 rfl rfl)
theorem dL_law_1226 : decode cL_law 1226 = .ok (.aload_n 0, 1) := dk_42 (dk_at dksL_law_48 12 rfl rfl)
theorem dL_law_1227 : decode cL_law 1227 = .ok (.iload 5, 2) := dk_21 5 (dk_at dksL_law_48 13 rfl rfl)
theorem dL_law_1229 : decode cL_law 1229 = .ok (.iconst 2, 1) := dk_5 (dk_at dksL_law_48 15 rfl rfl)
theorem dL_law_1230 : decode cL_law 1230 = .ok (.iadd, 1) := dk_96 (dk_at dksL_law_48 16 rfl rfl)
theorem dL_law_1231 : decode cL_law 1231 = .ok (.iaload, 1) := dk_46 (dk_at dksL_law_48 17 rfl rfl)
theorem dL_law_1232 : decode cL_law 1232 = .ok (.aload_n 0, 1) := dk_42 (dk_at dksL_law_48 18 rfl rfl)
theorem dL_law_1233 : decode cL_law 1233 = .ok (.iload 5, 2) := dk_21 5 (dk_at dksL_law_48 19 rfl rfl)
theorem dL_law_1235 : decode cL_law 1235 = .ok (.iconst 3, 1) := dk_6 (dk_at dksL_law_48 21 rfl rfl)
theorem dL_law_1236 : decode cL_law 1236 = .ok (.iadd, 1) := dk_96 (dk_at dksL_law_48 22 rfl rfl)
theorem dL_law_1237 : decode cL_law 1237 = .ok (.iaload, 1) := dk_46 (dk_at dksL_law_48 23 rfl rfl)
theorem dL_law_1238 : decode cL_law 1238 = .ok (.aload_n 0, 1) := dk_42 (dk_at dksL_law_49 0 rfl rfl)
theorem dL_law_1239 : decode cL_law 1239 = .ok (.iload 5, 2) := dk_21 5 (dk_at dksL_law_49 1 rfl rfl)
theorem dL_law_1241 : decode cL_law 1241 = .ok (.iconst 4, 1) := dk_7 (dk_at dksL_law_49 3 rfl rfl)
theorem dL_law_1242 : decode cL_law 1242 = .ok (.iadd, 1) := dk_96 (dk_at dksL_law_49 4 rfl rfl)
theorem dL_law_1243 : decode cL_law 1243 = .ok (.iaload, 1) := dk_46 (dk_at dksL_law_49 5 rfl rfl)
theorem dL_law_1244 : decode cL_law 1244 = .ok (.aload_n 3, 1) := dk_45 (dk_at dksL_law_49 6 rfl rfl)
theorem dL_law_1245 : decode cL_law 1245 = .ok (.invokestatic 141, 3) := dk_184 0 141 (dk_at dksL_law_49 7 rfl rfl)
theorem dL_law_1248 : decode cL_law 1248 = .ok (.istore 6, 2) := dk_54 6 (dk_at dksL_law_49 10 rfl rfl)
theorem dL_law_1250 : decode cL_law 1250 = .ok (.aload_n 2, 1) := dk_44 (dk_at dksL_law_49 12 rfl rfl)
theorem dL_law_1251 : decode cL_law 1251 = .ok (.aload_n 0, 1) := dk_42 (dk_at dksL_law_49 13 rfl rfl)
theorem dL_law_1252 : decode cL_law 1252 = .ok (.iload 5, 2) := dk_21 5 (dk_at dksL_law_49 14 rfl rfl)
theorem dL_law_1254 : decode cL_law 1254 = .ok (.iconst 1, 1) := dk_4 (dk_at dksL_law_49 16 rfl rfl)
theorem dL_law_1255 : decode cL_law 1255 = .ok (.iadd, 1) := dk_96 (dk_at dksL_law_49 17 rfl rfl)
theorem dL_law_1256 : decode cL_law 1256 = .ok (.iaload, 1) := dk_46 (dk_at dksL_law_49 18 rfl rfl)
theorem dL_law_1257 : decode cL_law 1257 = .ok (.aload_n 0, 1) := dk_42 (dk_at dksL_law_49 19 rfl rfl)
theorem dL_law_1258 : decode cL_law 1258 = .ok (.iload 5, 2) := dk_21 5 (dk_at dksL_law_49 20 rfl rfl)
theorem dL_law_1260 : decode cL_law 1260 = .ok (.iconst 2, 1) := dk_5 (dk_at dksL_law_49 22 rfl rfl)
theorem dL_law_1261 : decode cL_law 1261 = .ok (.iadd, 1) := dk_96 (dk_at dksL_law_49 23 rfl rfl)
theorem dL_law_1262 : decode cL_law 1262 = .ok (.iaload, 1) := dk_46 (dk_at dksL_law_50 0 rfl rfl)
theorem dL_law_1263 : decode cL_law 1263 = .ok (.aload_n 0, 1) := dk_42 (dk_at dksL_law_50 1 rfl rfl)
theorem dL_law_1264 : decode cL_law 1264 = .ok (.iload 5, 2) := dk_21 5 (dk_at dksL_law_50 2 rfl rfl)
theorem dL_law_1266 : decode cL_law 1266 = .ok (.iconst 3, 1) := dk_6 (dk_at dksL_law_50 4 rfl rfl)
theorem dL_law_1267 : decode cL_law 1267 = .ok (.iadd, 1) := dk_96 (dk_at dksL_law_50 5 rfl rfl)
theorem dL_law_1268 : decode cL_law 1268 = .ok (.iaload, 1) := dk_46 (dk_at dksL_law_50 6 rfl rfl)
theorem dL_law_1269 : decode cL_law 1269 = .ok (.aload_n 0, 1) := dk_42 (dk_at dksL_law_50 7 rfl rfl)
theorem dL_law_1270 : decode cL_law 1270 = .ok (.iload 5, 2) := dk_21 5 (dk_at dksL_law_50 8 rfl rfl)
theorem dL_law_1272 : decode cL_law 1272 = .ok (.iconst 4, 1) := dk_7 (dk_at dksL_law_50 10 rfl rfl)
theorem dL_law_1273 : decode cL_law 1273 = .ok (.iadd, 1) := dk_96 (dk_at dksL_law_50 11 rfl rfl)
theorem dL_law_1274 : decode cL_law 1274 = .ok (.iaload, 1) := dk_46 (dk_at dksL_law_50 12 rfl rfl)
theorem dL_law_1275 : decode cL_law 1275 = .ok (.invokevirtual 143, 3) := dk_182 0 143 (dk_at dksL_law_50 13 rfl rfl)
theorem dL_law_1278 : decode cL_law 1278 = .ok (.istore 7, 2) := dk_54 7 (dk_at dksL_law_50 16 rfl rfl)
theorem dL_law_1280 : decode cL_law 1280 = .ok (.aload_n 2, 1) := dk_44 (dk_at dksL_law_50 18 rfl rfl)
theorem dL_law_1281 : decode cL_law 1281 = .ok (.invokevirtual 96, 3) := dk_182 0 96 (dk_at dksL_law_50 19 rfl rfl)
theorem dL_law_1284 : decode cL_law 1284 = .ok (.iload 6, 2) := dk_21 6 (dk_at dksL_law_50 22 rfl rfl)
theorem dL_law_1286 : decode cL_law 1286 = .ok (.if_icmp .eq 5, 3) := dk_159 0 5 (dk_at dksL_law_51 0 rfl rfl)
theorem dL_law_1289 : decode cL_law 1289 = .ok (.iconst 0, 1) := dk_3 (dk_at dksL_law_51 3 rfl rfl)
theorem dL_law_1290 : decode cL_law 1290 = .ok (.ireturn, 1) := dk_172 (dk_at dksL_law_51 4 rfl rfl)
theorem dL_law_1291 : decode cL_law 1291 = .ok (.iload 6, 2) := dk_21 6 (dk_at dksL_law_51 5 rfl rfl)
theorem dL_law_1293 : decode cL_law 1293 = .ok (.ifCond .ne 15, 3) := dk_154 0 15 (dk_at dksL_law_51 7 rfl rfl)
theorem dL_law_1296 : decode cL_law 1296 = .ok (.aload_n 3, 1) := dk_45 (dk_at dksL_law_51 10 rfl rfl)
theorem dL_law_1297 : decode cL_law 1297 = .ok (.iconst 0, 1) := dk_3 (dk_at dksL_law_51 11 rfl rfl)
theorem dL_law_1298 : decode cL_law 1298 = .ok (.laload, 1) := dk_47 (dk_at dksL_law_51 12 rfl rfl)
theorem dL_law_1299 : decode cL_law 1299 = .ok (.iload 7, 2) := dk_21 7 (dk_at dksL_law_51 13 rfl rfl)
theorem dL_law_1301 : decode cL_law 1301 = .ok (.i2l, 1) := dk_133 (dk_at dksL_law_51 15 rfl rfl)
theorem dL_law_1302 : decode cL_law 1302 = .ok (.lcmp, 1) := dk_148 (dk_at dksL_law_51 16 rfl rfl)
theorem dL_law_1303 : decode cL_law 1303 = .ok (.ifCond .eq 5, 3) := dk_153 0 5 (dk_at dksL_law_51 17 rfl rfl)
theorem dL_law_1306 : decode cL_law 1306 = .ok (.iconst 0, 1) := dk_3 (dk_at dksL_law_51 20 rfl rfl)
theorem dL_law_1307 : decode cL_law 1307 = .ok (.ireturn, 1) := dk_172 (dk_at dksL_law_51 21 rfl rfl)
theorem dL_law_1308 : decode cL_law 1308 = .ok (.goto 498, 3) := dk_167 1 242 (dk_at dksL_law_52 0 rfl rfl)
theorem dL_law_1311 : decode cL_law 1311 = .ok (.aload_n 1, 1) := dk_43 (dk_at dksL_law_52 3 rfl rfl)
theorem dL_law_1312 : decode cL_law 1312 = .ok (.aload_n 0, 1) := dk_42 (dk_at dksL_law_52 4 rfl rfl)
theorem dL_law_1313 : decode cL_law 1313 = .ok (.iload 5, 2) := dk_21 5 (dk_at dksL_law_52 5 rfl rfl)
theorem dL_law_1315 : decode cL_law 1315 = .ok (.iconst 1, 1) := dk_4 (dk_at dksL_law_52 7 rfl rfl)
theorem dL_law_1316 : decode cL_law 1316 = .ok (.iadd, 1) := dk_96 (dk_at dksL_law_52 8 rfl rfl)
theorem dL_law_1317 : decode cL_law 1317 = .ok (.iaload, 1) := dk_46 (dk_at dksL_law_52 9 rfl rfl)
theorem dL_law_1318 : decode cL_law 1318 = .ok (.aload_n 0, 1) := dk_42 (dk_at dksL_law_52 10 rfl rfl)
theorem dL_law_1319 : decode cL_law 1319 = .ok (.iload 5, 2) := dk_21 5 (dk_at dksL_law_52 11 rfl rfl)
theorem dL_law_1321 : decode cL_law 1321 = .ok (.iconst 2, 1) := dk_5 (dk_at dksL_law_52 13 rfl rfl)
theorem dL_law_1322 : decode cL_law 1322 = .ok (.iadd, 1) := dk_96 (dk_at dksL_law_52 14 rfl rfl)
theorem dL_law_1323 : decode cL_law 1323 = .ok (.iaload, 1) := dk_46 (dk_at dksL_law_52 15 rfl rfl)
theorem dL_law_1324 : decode cL_law 1324 = .ok (.aload_n 3, 1) := dk_45 (dk_at dksL_law_52 16 rfl rfl)
theorem dL_law_1325 : decode cL_law 1325 = .ok (.invokestatic 144, 3) := dk_184 0 144 (dk_at dksL_law_52 17 rfl rfl)
theorem dL_law_1328 : decode cL_law 1328 = .ok (.istore 6, 2) := dk_54 6 (dk_at dksL_law_52 20 rfl rfl)
theorem dL_law_1330 : decode cL_law 1330 = .ok (.aload_n 2, 1) := dk_44 (dk_at dksL_law_52 22 rfl rfl)
theorem dL_law_1331 : decode cL_law 1331 = .ok (.aload_n 0, 1) := dk_42 (dk_at dksL_law_52 23 rfl rfl)
theorem dL_law_1332 : decode cL_law 1332 = .ok (.iload 5, 2) := dk_21 5 (dk_at dksL_law_53 0 rfl rfl)
theorem dL_law_1334 : decode cL_law 1334 = .ok (.iconst 1, 1) := dk_4 (dk_at dksL_law_53 2 rfl rfl)
theorem dL_law_1335 : decode cL_law 1335 = .ok (.iadd, 1) := dk_96 (dk_at dksL_law_53 3 rfl rfl)
theorem dL_law_1336 : decode cL_law 1336 = .ok (.iaload, 1) := dk_46 (dk_at dksL_law_53 4 rfl rfl)
theorem dL_law_1337 : decode cL_law 1337 = .ok (.aload_n 0, 1) := dk_42 (dk_at dksL_law_53 5 rfl rfl)
theorem dL_law_1338 : decode cL_law 1338 = .ok (.iload 5, 2) := dk_21 5 (dk_at dksL_law_53 6 rfl rfl)
theorem dL_law_1340 : decode cL_law 1340 = .ok (.iconst 2, 1) := dk_5 (dk_at dksL_law_53 8 rfl rfl)
theorem dL_law_1341 : decode cL_law 1341 = .ok (.iadd, 1) := dk_96 (dk_at dksL_law_53 9 rfl rfl)
theorem dL_law_1342 : decode cL_law 1342 = .ok (.iaload, 1) := dk_46 (dk_at dksL_law_53 10 rfl rfl)
theorem dL_law_1343 : decode cL_law 1343 = .ok (.invokevirtual 146, 3) := dk_182 0 146 (dk_at dksL_law_53 11 rfl rfl)
theorem dL_law_1346 : decode cL_law 1346 = .ok (.istore 7, 2) := dk_54 7 (dk_at dksL_law_53 14 rfl rfl)
theorem dL_law_1348 : decode cL_law 1348 = .ok (.aload_n 2, 1) := dk_44 (dk_at dksL_law_53 16 rfl rfl)
theorem dL_law_1349 : decode cL_law 1349 = .ok (.invokevirtual 96, 3) := dk_182 0 96 (dk_at dksL_law_53 17 rfl rfl)
theorem dL_law_1352 : decode cL_law 1352 = .ok (.iload 6, 2) := dk_21 6 (dk_at dksL_law_53 20 rfl rfl)
theorem dL_law_1354 : decode cL_law 1354 = .ok (.if_icmp .eq 5, 3) := dk_159 0 5 (dk_at dksL_law_54 0 rfl rfl)
theorem dL_law_1357 : decode cL_law 1357 = .ok (.iconst 0, 1) := dk_3 (dk_at dksL_law_54 3 rfl rfl)
theorem dL_law_1358 : decode cL_law 1358 = .ok (.ireturn, 1) := dk_172 (dk_at dksL_law_54 4 rfl rfl)
theorem dL_law_1359 : decode cL_law 1359 = .ok (.iload 6, 2) := dk_21 6 (dk_at dksL_law_54 5 rfl rfl)
theorem dL_law_1361 : decode cL_law 1361 = .ok (.ifCond .ne 15, 3) := dk_154 0 15 (dk_at dksL_law_54 7 rfl rfl)
theorem dL_law_1364 : decode cL_law 1364 = .ok (.aload_n 3, 1) := dk_45 (dk_at dksL_law_54 10 rfl rfl)
theorem dL_law_1365 : decode cL_law 1365 = .ok (.iconst 0, 1) := dk_3 (dk_at dksL_law_54 11 rfl rfl)
theorem dL_law_1366 : decode cL_law 1366 = .ok (.laload, 1) := dk_47 (dk_at dksL_law_54 12 rfl rfl)
theorem dL_law_1367 : decode cL_law 1367 = .ok (.iload 7, 2) := dk_21 7 (dk_at dksL_law_54 13 rfl rfl)
theorem dL_law_1369 : decode cL_law 1369 = .ok (.i2l, 1) := dk_133 (dk_at dksL_law_54 15 rfl rfl)
theorem dL_law_1370 : decode cL_law 1370 = .ok (.lcmp, 1) := dk_148 (dk_at dksL_law_54 16 rfl rfl)
theorem dL_law_1371 : decode cL_law 1371 = .ok (.ifCond .eq 5, 3) := dk_153 0 5 (dk_at dksL_law_54 17 rfl rfl)
theorem dL_law_1374 : decode cL_law 1374 = .ok (.iconst 0, 1) := dk_3 (dk_at dksL_law_54 20 rfl rfl)
theorem dL_law_1375 : decode cL_law 1375 = .ok (.ireturn, 1) := dk_172 (dk_at dksL_law_54 21 rfl rfl)
theorem dL_law_1376 : decode cL_law 1376 = .ok (.goto 430, 3) := dk_167 1 174 (dk_at dksL_law_55 0 rfl rfl)
theorem dL_law_1379 : decode cL_law 1379 = .ok (.aload_n 1, 1) := dk_43 (dk_at dksL_law_55 3 rfl rfl)
theorem dL_law_1380 : decode cL_law 1380 = .ok (.aload_n 0, 1) := dk_42 (dk_at dksL_law_55 4 rfl rfl)
theorem dL_law_1381 : decode cL_law 1381 = .ok (.iload 5, 2) := dk_21 5 (dk_at dksL_law_55 5 rfl rfl)
theorem dL_law_1383 : decode cL_law 1383 = .ok (.iconst 1, 1) := dk_4 (dk_at dksL_law_55 7 rfl rfl)
theorem dL_law_1384 : decode cL_law 1384 = .ok (.iadd, 1) := dk_96 (dk_at dksL_law_55 8 rfl rfl)
theorem dL_law_1385 : decode cL_law 1385 = .ok (.iaload, 1) := dk_46 (dk_at dksL_law_55 9 rfl rfl)
theorem dL_law_1386 : decode cL_law 1386 = .ok (.aload_n 3, 1) := dk_45 (dk_at dksL_law_55 10 rfl rfl)
theorem dL_law_1387 : decode cL_law 1387 = .ok (.invokestatic 147, 3) := dk_184 0 147 (dk_at dksL_law_55 11 rfl rfl)
theorem dL_law_1390 : decode cL_law 1390 = .ok (.istore 6, 2) := dk_54 6 (dk_at dksL_law_55 14 rfl rfl)
theorem dL_law_1392 : decode cL_law 1392 = .ok (.aload_n 2, 1) := dk_44 (dk_at dksL_law_55 16 rfl rfl)
theorem dL_law_1393 : decode cL_law 1393 = .ok (.aload_n 0, 1) := dk_42 (dk_at dksL_law_55 17 rfl rfl)
theorem dL_law_1394 : decode cL_law 1394 = .ok (.iload 5, 2) := dk_21 5 (dk_at dksL_law_55 18 rfl rfl)
theorem dL_law_1396 : decode cL_law 1396 = .ok (.iconst 1, 1) := dk_4 (dk_at dksL_law_55 20 rfl rfl)
theorem dL_law_1397 : decode cL_law 1397 = .ok (.iadd, 1) := dk_96 (dk_at dksL_law_55 21 rfl rfl)
theorem dL_law_1398 : decode cL_law 1398 = .ok (.iaload, 1) := dk_46 (dk_at dksL_law_55 22 rfl rfl)
theorem dL_law_1399 : decode cL_law 1399 = .ok (.invokevirtual 149, 3) := dk_182 0 149 (dk_at dksL_law_56 0 rfl rfl)
theorem dL_law_1402 : decode cL_law 1402 = .ok (.istore 7, 2) := dk_54 7 (dk_at dksL_law_56 3 rfl rfl)
theorem dL_law_1404 : decode cL_law 1404 = .ok (.aload_n 2, 1) := dk_44 (dk_at dksL_law_56 5 rfl rfl)
theorem dL_law_1405 : decode cL_law 1405 = .ok (.invokevirtual 96, 3) := dk_182 0 96 (dk_at dksL_law_56 6 rfl rfl)
theorem dL_law_1408 : decode cL_law 1408 = .ok (.iload 6, 2) := dk_21 6 (dk_at dksL_law_56 9 rfl rfl)
theorem dL_law_1410 : decode cL_law 1410 = .ok (.if_icmp .eq 5, 3) := dk_159 0 5 (dk_at dksL_law_56 11 rfl rfl)
theorem dL_law_1413 : decode cL_law 1413 = .ok (.iconst 0, 1) := dk_3 (dk_at dksL_law_56 14 rfl rfl)
theorem dL_law_1414 : decode cL_law 1414 = .ok (.ireturn, 1) := dk_172 (dk_at dksL_law_56 15 rfl rfl)
theorem dL_law_1415 : decode cL_law 1415 = .ok (.iload 6, 2) := dk_21 6 (dk_at dksL_law_56 16 rfl rfl)
theorem dL_law_1417 : decode cL_law 1417 = .ok (.ifCond .ne 15, 3) := dk_154 0 15 (dk_at dksL_law_56 18 rfl rfl)
theorem dL_law_1420 : decode cL_law 1420 = .ok (.aload_n 3, 1) := dk_45 (dk_at dksL_law_56 21 rfl rfl)
theorem dL_law_1421 : decode cL_law 1421 = .ok (.iconst 0, 1) := dk_3 (dk_at dksL_law_56 22 rfl rfl)
theorem dL_law_1422 : decode cL_law 1422 = .ok (.laload, 1) := dk_47 (dk_at dksL_law_56 23 rfl rfl)
theorem dL_law_1423 : decode cL_law 1423 = .ok (.iload 7, 2) := dk_21 7 (dk_at dksL_law_57 0 rfl rfl)
theorem dL_law_1425 : decode cL_law 1425 = .ok (.i2l, 1) := dk_133 (dk_at dksL_law_57 2 rfl rfl)
theorem dL_law_1426 : decode cL_law 1426 = .ok (.lcmp, 1) := dk_148 (dk_at dksL_law_57 3 rfl rfl)
theorem dL_law_1427 : decode cL_law 1427 = .ok (.ifCond .eq 5, 3) := dk_153 0 5 (dk_at dksL_law_57 4 rfl rfl)
theorem dL_law_1430 : decode cL_law 1430 = .ok (.iconst 0, 1) := dk_3 (dk_at dksL_law_57 7 rfl rfl)
theorem dL_law_1431 : decode cL_law 1431 = .ok (.ireturn, 1) := dk_172 (dk_at dksL_law_57 8 rfl rfl)
theorem dL_law_1432 : decode cL_law 1432 = .ok (.goto 374, 3) := dk_167 1 118 (dk_at dksL_law_57 9 rfl rfl)
theorem dL_law_1435 : decode cL_law 1435 = .ok (.aload_n 1, 1) := dk_43 (dk_at dksL_law_57 12 rfl rfl)
theorem dL_law_1436 : decode cL_law 1436 = .ok (.aload_n 0, 1) := dk_42 (dk_at dksL_law_57 13 rfl rfl)
theorem dL_law_1437 : decode cL_law 1437 = .ok (.iload 5, 2) := dk_21 5 (dk_at dksL_law_57 14 rfl rfl)
theorem dL_law_1439 : decode cL_law 1439 = .ok (.iconst 1, 1) := dk_4 (dk_at dksL_law_57 16 rfl rfl)
theorem dL_law_1440 : decode cL_law 1440 = .ok (.iadd, 1) := dk_96 (dk_at dksL_law_57 17 rfl rfl)
theorem dL_law_1441 : decode cL_law 1441 = .ok (.iaload, 1) := dk_46 (dk_at dksL_law_57 18 rfl rfl)
theorem dL_law_1442 : decode cL_law 1442 = .ok (.aload_n 0, 1) := dk_42 (dk_at dksL_law_57 19 rfl rfl)
theorem dL_law_1443 : decode cL_law 1443 = .ok (.iload 5, 2) := dk_21 5 (dk_at dksL_law_57 20 rfl rfl)
theorem dL_law_1445 : decode cL_law 1445 = .ok (.iconst 2, 1) := dk_5 (dk_at dksL_law_57 22 rfl rfl)
theorem dL_law_1446 : decode cL_law 1446 = .ok (.iadd, 1) := dk_96 (dk_at dksL_law_57 23 rfl rfl)
theorem dL_law_1447 : decode cL_law 1447 = .ok (.iaload, 1) := dk_46 (dk_at dksL_law_58 0 rfl rfl)
theorem dL_law_1448 : decode cL_law 1448 = .ok (.aload_n 0, 1) := dk_42 (dk_at dksL_law_58 1 rfl rfl)
theorem dL_law_1449 : decode cL_law 1449 = .ok (.iload 5, 2) := dk_21 5 (dk_at dksL_law_58 2 rfl rfl)
theorem dL_law_1451 : decode cL_law 1451 = .ok (.iconst 3, 1) := dk_6 (dk_at dksL_law_58 4 rfl rfl)
theorem dL_law_1452 : decode cL_law 1452 = .ok (.iadd, 1) := dk_96 (dk_at dksL_law_58 5 rfl rfl)
theorem dL_law_1453 : decode cL_law 1453 = .ok (.iaload, 1) := dk_46 (dk_at dksL_law_58 6 rfl rfl)
theorem dL_law_1454 : decode cL_law 1454 = .ok (.aload_n 3, 1) := dk_45 (dk_at dksL_law_58 7 rfl rfl)
theorem dL_law_1455 : decode cL_law 1455 = .ok (.invokestatic 150, 3) := dk_184 0 150 (dk_at dksL_law_58 8 rfl rfl)
theorem dL_law_1458 : decode cL_law 1458 = .ok (.istore 6, 2) := dk_54 6 (dk_at dksL_law_58 11 rfl rfl)
theorem dL_law_1460 : decode cL_law 1460 = .ok (.aload_n 2, 1) := dk_44 (dk_at dksL_law_58 13 rfl rfl)
theorem dL_law_1461 : decode cL_law 1461 = .ok (.aload_n 0, 1) := dk_42 (dk_at dksL_law_58 14 rfl rfl)
theorem dL_law_1462 : decode cL_law 1462 = .ok (.iload 5, 2) := dk_21 5 (dk_at dksL_law_58 15 rfl rfl)
theorem dL_law_1464 : decode cL_law 1464 = .ok (.iconst 1, 1) := dk_4 (dk_at dksL_law_58 17 rfl rfl)
theorem dL_law_1465 : decode cL_law 1465 = .ok (.iadd, 1) := dk_96 (dk_at dksL_law_58 18 rfl rfl)
theorem dL_law_1466 : decode cL_law 1466 = .ok (.iaload, 1) := dk_46 (dk_at dksL_law_58 19 rfl rfl)
theorem dL_law_1467 : decode cL_law 1467 = .ok (.aload_n 0, 1) := dk_42 (dk_at dksL_law_58 20 rfl rfl)
theorem dL_law_1468 : decode cL_law 1468 = .ok (.iload 5, 2) := dk_21 5 (dk_at dksL_law_58 21 rfl rfl)
theorem dL_law_1470 : decode cL_law 1470 = .ok (.iconst 2, 1) := dk_5 (dk_at dksL_law_58 23 rfl rfl)
theorem dL_law_1471 : decode cL_law 1471 = .ok (.iadd, 1) := dk_96 (dk_at dksL_law_59 0 rfl rfl)
theorem dL_law_1472 : decode cL_law 1472 = .ok (.iaload, 1) := dk_46 (dk_at dksL_law_59 1 rfl rfl)
theorem dL_law_1473 : decode cL_law 1473 = .ok (.aload_n 0, 1) := dk_42 (dk_at dksL_law_59 2 rfl rfl)
theorem dL_law_1474 : decode cL_law 1474 = .ok (.iload 5, 2) := dk_21 5 (dk_at dksL_law_59 3 rfl rfl)
theorem dL_law_1476 : decode cL_law 1476 = .ok (.iconst 3, 1) := dk_6 (dk_at dksL_law_59 5 rfl rfl)
theorem dL_law_1477 : decode cL_law 1477 = .ok (.iadd, 1) := dk_96 (dk_at dksL_law_59 6 rfl rfl)
theorem dL_law_1478 : decode cL_law 1478 = .ok (.iaload, 1) := dk_46 (dk_at dksL_law_59 7 rfl rfl)
theorem dL_law_1479 : decode cL_law 1479 = .ok (.invokevirtual 152, 3) := dk_182 0 152 (dk_at dksL_law_59 8 rfl rfl)
theorem dL_law_1482 : decode cL_law 1482 = .ok (.istore 7, 2) := dk_54 7 (dk_at dksL_law_59 11 rfl rfl)
theorem dL_law_1484 : decode cL_law 1484 = .ok (.aload_n 2, 1) := dk_44 (dk_at dksL_law_59 13 rfl rfl)
theorem dL_law_1485 : decode cL_law 1485 = .ok (.invokevirtual 96, 3) := dk_182 0 96 (dk_at dksL_law_59 14 rfl rfl)
theorem dL_law_1488 : decode cL_law 1488 = .ok (.iload 6, 2) := dk_21 6 (dk_at dksL_law_59 17 rfl rfl)
theorem dL_law_1490 : decode cL_law 1490 = .ok (.if_icmp .eq 5, 3) := dk_159 0 5 (dk_at dksL_law_59 19 rfl rfl)
theorem dL_law_1493 : decode cL_law 1493 = .ok (.iconst 0, 1) := dk_3 (dk_at dksL_law_59 22 rfl rfl)
theorem dL_law_1494 : decode cL_law 1494 = .ok (.ireturn, 1) := dk_172 (dk_at dksL_law_59 23 rfl rfl)
theorem dL_law_1495 : decode cL_law 1495 = .ok (.iload 6, 2) := dk_21 6 (dk_at dksL_law_60 0 rfl rfl)
theorem dL_law_1497 : decode cL_law 1497 = .ok (.ifCond .ne 15, 3) := dk_154 0 15 (dk_at dksL_law_60 2 rfl rfl)
theorem dL_law_1500 : decode cL_law 1500 = .ok (.aload_n 3, 1) := dk_45 (dk_at dksL_law_60 5 rfl rfl)
theorem dL_law_1501 : decode cL_law 1501 = .ok (.iconst 0, 1) := dk_3 (dk_at dksL_law_60 6 rfl rfl)
theorem dL_law_1502 : decode cL_law 1502 = .ok (.laload, 1) := dk_47 (dk_at dksL_law_60 7 rfl rfl)
theorem dL_law_1503 : decode cL_law 1503 = .ok (.iload 7, 2) := dk_21 7 (dk_at dksL_law_60 8 rfl rfl)
theorem dL_law_1505 : decode cL_law 1505 = .ok (.i2l, 1) := dk_133 (dk_at dksL_law_60 10 rfl rfl)
theorem dL_law_1506 : decode cL_law 1506 = .ok (.lcmp, 1) := dk_148 (dk_at dksL_law_60 11 rfl rfl)
theorem dL_law_1507 : decode cL_law 1507 = .ok (.ifCond .eq 5, 3) := dk_153 0 5 (dk_at dksL_law_60 12 rfl rfl)
theorem dL_law_1510 : decode cL_law 1510 = .ok (.iconst 0, 1) := dk_3 (dk_at dksL_law_60 15 rfl rfl)
theorem dL_law_1511 : decode cL_law 1511 = .ok (.ireturn, 1) := dk_172 (dk_at dksL_law_60 16 rfl rfl)
theorem dL_law_1512 : decode cL_law 1512 = .ok (.goto 294, 3) := dk_167 1 38 (dk_at dksL_law_60 17 rfl rfl)
theorem dL_law_1515 : decode cL_law 1515 = .ok (.aload_n 1, 1) := dk_43 (dk_at dksL_law_60 20 rfl rfl)
theorem dL_law_1516 : decode cL_law 1516 = .ok (.aload_n 0, 1) := dk_42 (dk_at dksL_law_60 21 rfl rfl)
theorem dL_law_1517 : decode cL_law 1517 = .ok (.iload 5, 2) := dk_21 5 (dk_at dksL_law_60 22 rfl rfl)
theorem dL_law_1519 : decode cL_law 1519 = .ok (.iconst 1, 1) := dk_4 (dk_at dksL_law_61 0 rfl rfl)
theorem dL_law_1520 : decode cL_law 1520 = .ok (.iadd, 1) := dk_96 (dk_at dksL_law_61 1 rfl rfl)
theorem dL_law_1521 : decode cL_law 1521 = .ok (.iaload, 1) := dk_46 (dk_at dksL_law_61 2 rfl rfl)
theorem dL_law_1522 : decode cL_law 1522 = .ok (.aload_n 3, 1) := dk_45 (dk_at dksL_law_61 3 rfl rfl)
theorem dL_law_1523 : decode cL_law 1523 = .ok (.invokestatic 153, 3) := dk_184 0 153 (dk_at dksL_law_61 4 rfl rfl)
theorem dL_law_1526 : decode cL_law 1526 = .ok (.istore 6, 2) := dk_54 6 (dk_at dksL_law_61 7 rfl rfl)
theorem dL_law_1528 : decode cL_law 1528 = .ok (.aload_n 2, 1) := dk_44 (dk_at dksL_law_61 9 rfl rfl)
theorem dL_law_1529 : decode cL_law 1529 = .ok (.aload_n 0, 1) := dk_42 (dk_at dksL_law_61 10 rfl rfl)
theorem dL_law_1530 : decode cL_law 1530 = .ok (.iload 5, 2) := dk_21 5 (dk_at dksL_law_61 11 rfl rfl)
theorem dL_law_1532 : decode cL_law 1532 = .ok (.iconst 1, 1) := dk_4 (dk_at dksL_law_61 13 rfl rfl)
theorem dL_law_1533 : decode cL_law 1533 = .ok (.iadd, 1) := dk_96 (dk_at dksL_law_61 14 rfl rfl)
theorem dL_law_1534 : decode cL_law 1534 = .ok (.iaload, 1) := dk_46 (dk_at dksL_law_61 15 rfl rfl)
theorem dL_law_1535 : decode cL_law 1535 = .ok (.invokevirtual 155, 3) := dk_182 0 155 (dk_at dksL_law_61 16 rfl rfl)
theorem dL_law_1538 : decode cL_law 1538 = .ok (.istore 7, 2) := dk_54 7 (dk_at dksL_law_61 19 rfl rfl)
theorem dL_law_1540 : decode cL_law 1540 = .ok (.aload_n 2, 1) := dk_44 (dk_at dksL_law_61 21 rfl rfl)
theorem dL_law_1541 : decode cL_law 1541 = .ok (.invokevirtual 96, 3) := dk_182 0 96 (dk_at dksL_law_62 0 rfl rfl)
theorem dL_law_1544 : decode cL_law 1544 = .ok (.iload 6, 2) := dk_21 6 (dk_at dksL_law_62 3 rfl rfl)
theorem dL_law_1546 : decode cL_law 1546 = .ok (.if_icmp .eq 5, 3) := dk_159 0 5 (dk_at dksL_law_62 5 rfl rfl)
theorem dL_law_1549 : decode cL_law 1549 = .ok (.iconst 0, 1) := dk_3 (dk_at dksL_law_62 8 rfl rfl)
theorem dL_law_1550 : decode cL_law 1550 = .ok (.ireturn, 1) := dk_172 (dk_at dksL_law_62 9 rfl rfl)
theorem dL_law_1551 : decode cL_law 1551 = .ok (.iload 6, 2) := dk_21 6 (dk_at dksL_law_62 10 rfl rfl)
theorem dL_law_1553 : decode cL_law 1553 = .ok (.ifCond .ne 15, 3) := dk_154 0 15 (dk_at dksL_law_62 12 rfl rfl)
theorem dL_law_1556 : decode cL_law 1556 = .ok (.aload_n 3, 1) := dk_45 (dk_at dksL_law_62 15 rfl rfl)
theorem dL_law_1557 : decode cL_law 1557 = .ok (.iconst 0, 1) := dk_3 (dk_at dksL_law_62 16 rfl rfl)
theorem dL_law_1558 : decode cL_law 1558 = .ok (.laload, 1) := dk_47 (dk_at dksL_law_62 17 rfl rfl)
theorem dL_law_1559 : decode cL_law 1559 = .ok (.iload 7, 2) := dk_21 7 (dk_at dksL_law_62 18 rfl rfl)
theorem dL_law_1561 : decode cL_law 1561 = .ok (.i2l, 1) := dk_133 (dk_at dksL_law_62 20 rfl rfl)
theorem dL_law_1562 : decode cL_law 1562 = .ok (.lcmp, 1) := dk_148 (dk_at dksL_law_62 21 rfl rfl)
theorem dL_law_1563 : decode cL_law 1563 = .ok (.ifCond .eq 5, 3) := dk_153 0 5 (dk_at dksL_law_63 0 rfl rfl)
theorem dL_law_1566 : decode cL_law 1566 = .ok (.iconst 0, 1) := dk_3 (dk_at dksL_law_63 3 rfl rfl)
theorem dL_law_1567 : decode cL_law 1567 = .ok (.ireturn, 1) := dk_172 (dk_at dksL_law_63 4 rfl rfl)
theorem dL_law_1568 : decode cL_law 1568 = .ok (.goto 238, 3) := dk_167 0 238 (dk_at dksL_law_63 5 rfl rfl)
theorem dL_law_1571 : decode cL_law 1571 = .ok (.aload_n 1, 1) := dk_43 (dk_at dksL_law_63 8 rfl rfl)
theorem dL_law_1572 : decode cL_law 1572 = .ok (.invokevirtual 156, 3) := dk_182 0 156 (dk_at dksL_law_63 9 rfl rfl)
theorem dL_law_1575 : decode cL_law 1575 = .ok (.dstore 6, 2) := dk_57 6 (dk_at dksL_law_63 12 rfl rfl)
theorem dL_law_1577 : decode cL_law 1577 = .ok (.aload_n 2, 1) := dk_44 (dk_at dksL_law_63 14 rfl rfl)
theorem dL_law_1578 : decode cL_law 1578 = .ok (.invokevirtual 160, 3) := dk_182 0 160 (dk_at dksL_law_63 15 rfl rfl)
theorem dL_law_1581 : decode cL_law 1581 = .ok (.dstore 8, 2) := dk_57 8 (dk_at dksL_law_63 18 rfl rfl)
theorem dL_law_1583 : decode cL_law 1583 = .ok (.dload 6, 2) := dk_24 6 (dk_at dksL_law_63 20 rfl rfl)
theorem dL_law_1585 : decode cL_law 1585 = .ok (.dload 8, 2) := dk_24 8 (dk_at dksL_law_63 22 rfl rfl)
theorem dL_law_1587 : decode cL_law 1587 = .ok (.dcmp .l, 1) := dk_151 (dk_at dksL_law_64 0 rfl rfl)
theorem dL_law_1588 : decode cL_law 1588 = .ok (.ifCond .eq 21, 3) := dk_153 0 21 (dk_at dksL_law_64 1 rfl rfl)
theorem dL_law_1591 : decode cL_law 1591 = .ok (.dload 6, 2) := dk_24 6 (dk_at dksL_law_64 4 rfl rfl)
theorem dL_law_1593 : decode cL_law 1593 = .ok (.dload 6, 2) := dk_24 6 (dk_at dksL_law_64 6 rfl rfl)
theorem dL_law_1595 : decode cL_law 1595 = .ok (.dcmp .l, 1) := dk_151 (dk_at dksL_law_64 8 rfl rfl)
theorem dL_law_1596 : decode cL_law 1596 = .ok (.ifCond .eq 11, 3) := dk_153 0 11 (dk_at dksL_law_64 9 rfl rfl)
theorem dL_law_1599 : decode cL_law 1599 = .ok (.dload 8, 2) := dk_24 8 (dk_at dksL_law_64 12 rfl rfl)
theorem dL_law_1601 : decode cL_law 1601 = .ok (.dload 8, 2) := dk_24 8 (dk_at dksL_law_64 14 rfl rfl)
theorem dL_law_1603 : decode cL_law 1603 = .ok (.dcmp .l, 1) := dk_151 (dk_at dksL_law_64 16 rfl rfl)
theorem dL_law_1604 : decode cL_law 1604 = .ok (.ifCond .ne 5, 3) := dk_154 0 5 (dk_at dksL_law_64 17 rfl rfl)
theorem dL_law_1607 : decode cL_law 1607 = .ok (.iconst 0, 1) := dk_3 (dk_at dksL_law_64 20 rfl rfl)
theorem dL_law_1608 : decode cL_law 1608 = .ok (.ireturn, 1) := dk_172 (dk_at dksL_law_64 21 rfl rfl)
theorem dL_law_1609 : decode cL_law 1609 = .ok (.goto 197, 3) := dk_167 0 197 (dk_at dksL_law_65 0 rfl rfl)
theorem dL_law_1612 : decode cL_law 1612 = .ok (.aload_n 1, 1) := dk_43 (dk_at dksL_law_65 3 rfl rfl)
theorem dL_law_1613 : decode cL_law 1613 = .ok (.aload_n 0, 1) := dk_42 (dk_at dksL_law_65 4 rfl rfl)
theorem dL_law_1614 : decode cL_law 1614 = .ok (.iload 5, 2) := dk_21 5 (dk_at dksL_law_65 5 rfl rfl)
theorem dL_law_1616 : decode cL_law 1616 = .ok (.iconst 1, 1) := dk_4 (dk_at dksL_law_65 7 rfl rfl)
theorem dL_law_1617 : decode cL_law 1617 = .ok (.iadd, 1) := dk_96 (dk_at dksL_law_65 8 rfl rfl)
theorem dL_law_1618 : decode cL_law 1618 = .ok (.iaload, 1) := dk_46 (dk_at dksL_law_65 9 rfl rfl)
theorem dL_law_1619 : decode cL_law 1619 = .ok (.aload_n 0, 1) := dk_42 (dk_at dksL_law_65 10 rfl rfl)
theorem dL_law_1620 : decode cL_law 1620 = .ok (.iload 5, 2) := dk_21 5 (dk_at dksL_law_65 11 rfl rfl)
theorem dL_law_1622 : decode cL_law 1622 = .ok (.iconst 2, 1) := dk_5 (dk_at dksL_law_65 13 rfl rfl)
theorem dL_law_1623 : decode cL_law 1623 = .ok (.iadd, 1) := dk_96 (dk_at dksL_law_65 14 rfl rfl)
theorem dL_law_1624 : decode cL_law 1624 = .ok (.iaload, 1) := dk_46 (dk_at dksL_law_65 15 rfl rfl)
theorem dL_law_1625 : decode cL_law 1625 = .ok (.aload_n 3, 1) := dk_45 (dk_at dksL_law_65 16 rfl rfl)
theorem dL_law_1626 : decode cL_law 1626 = .ok (.invokestatic 161, 3) := dk_184 0 161 (dk_at dksL_law_65 17 rfl rfl)
theorem dL_law_1629 : decode cL_law 1629 = .ok (.istore 6, 2) := dk_54 6 (dk_at dksL_law_65 20 rfl rfl)
theorem dL_law_1631 : decode cL_law 1631 = .ok (.aload_n 2, 1) := dk_44 (dk_at dksL_law_65 22 rfl rfl)
theorem dL_law_1632 : decode cL_law 1632 = .ok (.aload_n 0, 1) := dk_42 (dk_at dksL_law_65 23 rfl rfl)
theorem dL_law_1633 : decode cL_law 1633 = .ok (.iload 5, 2) := dk_21 5 (dk_at dksL_law_66 0 rfl rfl)
theorem dL_law_1635 : decode cL_law 1635 = .ok (.iconst 1, 1) := dk_4 (dk_at dksL_law_66 2 rfl rfl)
theorem dL_law_1636 : decode cL_law 1636 = .ok (.iadd, 1) := dk_96 (dk_at dksL_law_66 3 rfl rfl)
theorem dL_law_1637 : decode cL_law 1637 = .ok (.iaload, 1) := dk_46 (dk_at dksL_law_66 4 rfl rfl)
theorem dL_law_1638 : decode cL_law 1638 = .ok (.aload_n 0, 1) := dk_42 (dk_at dksL_law_66 5 rfl rfl)
theorem dL_law_1639 : decode cL_law 1639 = .ok (.iload 5, 2) := dk_21 5 (dk_at dksL_law_66 6 rfl rfl)
theorem dL_law_1641 : decode cL_law 1641 = .ok (.iconst 2, 1) := dk_5 (dk_at dksL_law_66 8 rfl rfl)
theorem dL_law_1642 : decode cL_law 1642 = .ok (.iadd, 1) := dk_96 (dk_at dksL_law_66 9 rfl rfl)
theorem dL_law_1643 : decode cL_law 1643 = .ok (.iaload, 1) := dk_46 (dk_at dksL_law_66 10 rfl rfl)
theorem dL_law_1644 : decode cL_law 1644 = .ok (.invokevirtual 163, 3) := dk_182 0 163 (dk_at dksL_law_66 11 rfl rfl)
theorem dL_law_1647 : decode cL_law 1647 = .ok (.istore 7, 2) := dk_54 7 (dk_at dksL_law_66 14 rfl rfl)
theorem dL_law_1649 : decode cL_law 1649 = .ok (.aload_n 2, 1) := dk_44 (dk_at dksL_law_66 16 rfl rfl)
theorem dL_law_1650 : decode cL_law 1650 = .ok (.invokevirtual 96, 3) := dk_182 0 96 (dk_at dksL_law_66 17 rfl rfl)
theorem dL_law_1653 : decode cL_law 1653 = .ok (.iload 6, 2) := dk_21 6 (dk_at dksL_law_66 20 rfl rfl)
theorem dL_law_1655 : decode cL_law 1655 = .ok (.if_icmp .eq 5, 3) := dk_159 0 5 (dk_at dksL_law_67 0 rfl rfl)
theorem dL_law_1658 : decode cL_law 1658 = .ok (.iconst 0, 1) := dk_3 (dk_at dksL_law_67 3 rfl rfl)
theorem dL_law_1659 : decode cL_law 1659 = .ok (.ireturn, 1) := dk_172 (dk_at dksL_law_67 4 rfl rfl)
theorem dL_law_1660 : decode cL_law 1660 = .ok (.iload 6, 2) := dk_21 6 (dk_at dksL_law_67 5 rfl rfl)
theorem dL_law_1662 : decode cL_law 1662 = .ok (.ifCond .ne 15, 3) := dk_154 0 15 (dk_at dksL_law_67 7 rfl rfl)
theorem dL_law_1665 : decode cL_law 1665 = .ok (.aload_n 3, 1) := dk_45 (dk_at dksL_law_67 10 rfl rfl)
theorem dL_law_1666 : decode cL_law 1666 = .ok (.iconst 0, 1) := dk_3 (dk_at dksL_law_67 11 rfl rfl)
theorem dL_law_1667 : decode cL_law 1667 = .ok (.laload, 1) := dk_47 (dk_at dksL_law_67 12 rfl rfl)
theorem dL_law_1668 : decode cL_law 1668 = .ok (.iload 7, 2) := dk_21 7 (dk_at dksL_law_67 13 rfl rfl)
theorem dL_law_1670 : decode cL_law 1670 = .ok (.i2l, 1) := dk_133 (dk_at dksL_law_67 15 rfl rfl)
theorem dL_law_1671 : decode cL_law 1671 = .ok (.lcmp, 1) := dk_148 (dk_at dksL_law_67 16 rfl rfl)
theorem dL_law_1672 : decode cL_law 1672 = .ok (.ifCond .eq 5, 3) := dk_153 0 5 (dk_at dksL_law_67 17 rfl rfl)
theorem dL_law_1675 : decode cL_law 1675 = .ok (.iconst 0, 1) := dk_3 (dk_at dksL_law_67 20 rfl rfl)
theorem dL_law_1676 : decode cL_law 1676 = .ok (.ireturn, 1) := dk_172 (dk_at dksL_law_67 21 rfl rfl)
theorem dL_law_1677 : decode cL_law 1677 = .ok (.goto 129, 3) := dk_167 0 129 (dk_at dksL_law_68 0 rfl rfl)
theorem dL_law_1680 : decode cL_law 1680 = .ok (.aload_n 1, 1) := dk_43 (dk_at dksL_law_68 3 rfl rfl)
theorem dL_law_1681 : decode cL_law 1681 = .ok (.aload_n 0, 1) := dk_42 (dk_at dksL_law_68 4 rfl rfl)
theorem dL_law_1682 : decode cL_law 1682 = .ok (.iload 5, 2) := dk_21 5 (dk_at dksL_law_68 5 rfl rfl)
theorem dL_law_1684 : decode cL_law 1684 = .ok (.iconst 1, 1) := dk_4 (dk_at dksL_law_68 7 rfl rfl)
theorem dL_law_1685 : decode cL_law 1685 = .ok (.iadd, 1) := dk_96 (dk_at dksL_law_68 8 rfl rfl)
theorem dL_law_1686 : decode cL_law 1686 = .ok (.iaload, 1) := dk_46 (dk_at dksL_law_68 9 rfl rfl)
theorem dL_law_1687 : decode cL_law 1687 = .ok (.aload_n 3, 1) := dk_45 (dk_at dksL_law_68 10 rfl rfl)
theorem dL_law_1688 : decode cL_law 1688 = .ok (.invokestatic 164, 3) := dk_184 0 164 (dk_at dksL_law_68 11 rfl rfl)
theorem dL_law_1691 : decode cL_law 1691 = .ok (.istore 6, 2) := dk_54 6 (dk_at dksL_law_68 14 rfl rfl)
theorem dL_law_1693 : decode cL_law 1693 = .ok (.aload_n 2, 1) := dk_44 (dk_at dksL_law_68 16 rfl rfl)
theorem dL_law_1694 : decode cL_law 1694 = .ok (.aload_n 0, 1) := dk_42 (dk_at dksL_law_68 17 rfl rfl)
theorem dL_law_1695 : decode cL_law 1695 = .ok (.iload 5, 2) := dk_21 5 (dk_at dksL_law_68 18 rfl rfl)
theorem dL_law_1697 : decode cL_law 1697 = .ok (.iconst 1, 1) := dk_4 (dk_at dksL_law_68 20 rfl rfl)
theorem dL_law_1698 : decode cL_law 1698 = .ok (.iadd, 1) := dk_96 (dk_at dksL_law_68 21 rfl rfl)
theorem dL_law_1699 : decode cL_law 1699 = .ok (.iaload, 1) := dk_46 (dk_at dksL_law_68 22 rfl rfl)
theorem dL_law_1700 : decode cL_law 1700 = .ok (.invokevirtual 166, 3) := dk_182 0 166 (dk_at dksL_law_69 0 rfl rfl)
theorem dL_law_1703 : decode cL_law 1703 = .ok (.istore 7, 2) := dk_54 7 (dk_at dksL_law_69 3 rfl rfl)
theorem dL_law_1705 : decode cL_law 1705 = .ok (.aload_n 2, 1) := dk_44 (dk_at dksL_law_69 5 rfl rfl)
theorem dL_law_1706 : decode cL_law 1706 = .ok (.invokevirtual 96, 3) := dk_182 0 96 (dk_at dksL_law_69 6 rfl rfl)
theorem dL_law_1709 : decode cL_law 1709 = .ok (.iload 6, 2) := dk_21 6 (dk_at dksL_law_69 9 rfl rfl)
theorem dL_law_1711 : decode cL_law 1711 = .ok (.if_icmp .eq 5, 3) := dk_159 0 5 (dk_at dksL_law_69 11 rfl rfl)
theorem dL_law_1714 : decode cL_law 1714 = .ok (.iconst 0, 1) := dk_3 (dk_at dksL_law_69 14 rfl rfl)
theorem dL_law_1715 : decode cL_law 1715 = .ok (.ireturn, 1) := dk_172 (dk_at dksL_law_69 15 rfl rfl)
theorem dL_law_1716 : decode cL_law 1716 = .ok (.iload 6, 2) := dk_21 6 (dk_at dksL_law_69 16 rfl rfl)
theorem dL_law_1718 : decode cL_law 1718 = .ok (.ifCond .ne 15, 3) := dk_154 0 15 (dk_at dksL_law_69 18 rfl rfl)
theorem dL_law_1721 : decode cL_law 1721 = .ok (.aload_n 3, 1) := dk_45 (dk_at dksL_law_69 21 rfl rfl)
theorem dL_law_1722 : decode cL_law 1722 = .ok (.iconst 0, 1) := dk_3 (dk_at dksL_law_69 22 rfl rfl)
theorem dL_law_1723 : decode cL_law 1723 = .ok (.laload, 1) := dk_47 (dk_at dksL_law_69 23 rfl rfl)
theorem dL_law_1724 : decode cL_law 1724 = .ok (.iload 7, 2) := dk_21 7 (dk_at dksL_law_70 0 rfl rfl)
theorem dL_law_1726 : decode cL_law 1726 = .ok (.i2l, 1) := dk_133 (dk_at dksL_law_70 2 rfl rfl)
theorem dL_law_1727 : decode cL_law 1727 = .ok (.lcmp, 1) := dk_148 (dk_at dksL_law_70 3 rfl rfl)
theorem dL_law_1728 : decode cL_law 1728 = .ok (.ifCond .eq 5, 3) := dk_153 0 5 (dk_at dksL_law_70 4 rfl rfl)
theorem dL_law_1731 : decode cL_law 1731 = .ok (.iconst 0, 1) := dk_3 (dk_at dksL_law_70 7 rfl rfl)
theorem dL_law_1732 : decode cL_law 1732 = .ok (.ireturn, 1) := dk_172 (dk_at dksL_law_70 8 rfl rfl)
theorem dL_law_1733 : decode cL_law 1733 = .ok (.goto 73, 3) := dk_167 0 73 (dk_at dksL_law_70 9 rfl rfl)
theorem dL_law_1736 : decode cL_law 1736 = .ok (.aload_n 1, 1) := dk_43 (dk_at dksL_law_70 12 rfl rfl)
theorem dL_law_1737 : decode cL_law 1737 = .ok (.aload_n 0, 1) := dk_42 (dk_at dksL_law_70 13 rfl rfl)
theorem dL_law_1738 : decode cL_law 1738 = .ok (.iload 5, 2) := dk_21 5 (dk_at dksL_law_70 14 rfl rfl)
theorem dL_law_1740 : decode cL_law 1740 = .ok (.iconst 1, 1) := dk_4 (dk_at dksL_law_70 16 rfl rfl)
theorem dL_law_1741 : decode cL_law 1741 = .ok (.iadd, 1) := dk_96 (dk_at dksL_law_70 17 rfl rfl)
theorem dL_law_1742 : decode cL_law 1742 = .ok (.iaload, 1) := dk_46 (dk_at dksL_law_70 18 rfl rfl)
theorem dL_law_1743 : decode cL_law 1743 = .ok (.aload_n 3, 1) := dk_45 (dk_at dksL_law_70 19 rfl rfl)
theorem dL_law_1744 : decode cL_law 1744 = .ok (.invokestatic 167, 3) := dk_184 0 167 (dk_at dksL_law_70 20 rfl rfl)
theorem dL_law_1747 : decode cL_law 1747 = .ok (.istore 6, 2) := dk_54 6 (dk_at dksL_law_71 0 rfl rfl)
theorem dL_law_1749 : decode cL_law 1749 = .ok (.aload_n 2, 1) := dk_44 (dk_at dksL_law_71 2 rfl rfl)
theorem dL_law_1750 : decode cL_law 1750 = .ok (.aload_n 0, 1) := dk_42 (dk_at dksL_law_71 3 rfl rfl)
theorem dL_law_1751 : decode cL_law 1751 = .ok (.iload 5, 2) := dk_21 5 (dk_at dksL_law_71 4 rfl rfl)
theorem dL_law_1753 : decode cL_law 1753 = .ok (.iconst 1, 1) := dk_4 (dk_at dksL_law_71 6 rfl rfl)
theorem dL_law_1754 : decode cL_law 1754 = .ok (.iadd, 1) := dk_96 (dk_at dksL_law_71 7 rfl rfl)
theorem dL_law_1755 : decode cL_law 1755 = .ok (.iaload, 1) := dk_46 (dk_at dksL_law_71 8 rfl rfl)
theorem dL_law_1756 : decode cL_law 1756 = .ok (.invokevirtual 169, 3) := dk_182 0 169 (dk_at dksL_law_71 9 rfl rfl)
theorem dL_law_1759 : decode cL_law 1759 = .ok (.istore 7, 2) := dk_54 7 (dk_at dksL_law_71 12 rfl rfl)
theorem dL_law_1761 : decode cL_law 1761 = .ok (.aload_n 2, 1) := dk_44 (dk_at dksL_law_71 14 rfl rfl)
theorem dL_law_1762 : decode cL_law 1762 = .ok (.invokevirtual 96, 3) := dk_182 0 96 (dk_at dksL_law_71 15 rfl rfl)
theorem dL_law_1765 : decode cL_law 1765 = .ok (.iload 6, 2) := dk_21 6 (dk_at dksL_law_71 18 rfl rfl)
theorem dL_law_1767 : decode cL_law 1767 = .ok (.if_icmp .eq 5, 3) := dk_159 0 5 (dk_at dksL_law_71 20 rfl rfl)
theorem dL_law_1770 : decode cL_law 1770 = .ok (.iconst 0, 1) := dk_3 (dk_at dksL_law_71 23 rfl rfl)
theorem dL_law_1771 : decode cL_law 1771 = .ok (.ireturn, 1) := dk_172 (dk_at dksL_law_72 0 rfl rfl)
theorem dL_law_1772 : decode cL_law 1772 = .ok (.iload 6, 2) := dk_21 6 (dk_at dksL_law_72 1 rfl rfl)
theorem dL_law_1774 : decode cL_law 1774 = .ok (.ifCond .ne 15, 3) := dk_154 0 15 (dk_at dksL_law_72 3 rfl rfl)
theorem dL_law_1777 : decode cL_law 1777 = .ok (.aload_n 3, 1) := dk_45 (dk_at dksL_law_72 6 rfl rfl)
theorem dL_law_1778 : decode cL_law 1778 = .ok (.iconst 0, 1) := dk_3 (dk_at dksL_law_72 7 rfl rfl)
theorem dL_law_1779 : decode cL_law 1779 = .ok (.laload, 1) := dk_47 (dk_at dksL_law_72 8 rfl rfl)
theorem dL_law_1780 : decode cL_law 1780 = .ok (.iload 7, 2) := dk_21 7 (dk_at dksL_law_72 9 rfl rfl)
theorem dL_law_1782 : decode cL_law 1782 = .ok (.i2l, 1) := dk_133 (dk_at dksL_law_72 11 rfl rfl)
theorem dL_law_1783 : decode cL_law 1783 = .ok (.lcmp, 1) := dk_148 (dk_at dksL_law_72 12 rfl rfl)
theorem dL_law_1784 : decode cL_law 1784 = .ok (.ifCond .eq 5, 3) := dk_153 0 5 (dk_at dksL_law_72 13 rfl rfl)
theorem dL_law_1787 : decode cL_law 1787 = .ok (.iconst 0, 1) := dk_3 (dk_at dksL_law_72 16 rfl rfl)
theorem dL_law_1788 : decode cL_law 1788 = .ok (.ireturn, 1) := dk_172 (dk_at dksL_law_72 17 rfl rfl)
theorem dL_law_1789 : decode cL_law 1789 = .ok (.goto 17, 3) := dk_167 0 17 (dk_at dksL_law_72 18 rfl rfl)
theorem dL_law_1792 : decode cL_law 1792 = .ok (.aload_n 1, 1) := dk_43 (dk_at dksL_law_72 21 rfl rfl)
theorem dL_law_1793 : decode cL_law 1793 = .ok (.invokevirtual 170, 3) := dk_182 0 170 (dk_at dksL_law_73 0 rfl rfl)
theorem dL_law_1796 : decode cL_law 1796 = .ok (.aload_n 2, 1) := dk_44 (dk_at dksL_law_73 3 rfl rfl)
theorem dL_law_1797 : decode cL_law 1797 = .ok (.invokevirtual 174, 3) := dk_182 0 174 (dk_at dksL_law_73 4 rfl rfl)
theorem dL_law_1800 : decode cL_law 1800 = .ok (.lcmp, 1) := dk_148 (dk_at dksL_law_73 7 rfl rfl)
theorem dL_law_1801 : decode cL_law 1801 = .ok (.ifCond .eq 5, 3) := dk_153 0 5 (dk_at dksL_law_73 8 rfl rfl)
theorem dL_law_1804 : decode cL_law 1804 = .ok (.iconst 0, 1) := dk_3 (dk_at dksL_law_73 11 rfl rfl)
theorem dL_law_1805 : decode cL_law 1805 = .ok (.ireturn, 1) := dk_172 (dk_at dksL_law_73 12 rfl rfl)
theorem dL_law_1806 : decode cL_law 1806 = .ok (.iinc 5 7, 3) := dk_132 5 7 (dk_at dksL_law_73 13 rfl rfl)
theorem dL_law_1809 : decode cL_law 1809 = .ok (.goto (-1781), 3) := dk_167 249 11 (dk_at dksL_law_73 16 rfl rfl)
theorem dL_law_1812 : decode cL_law 1812 = .ok (.iconst 1, 1) := dk_4 (dk_at dksL_law_73 19 rfl rfl)
theorem dL_law_1813 : decode cL_law 1813 = .ok (.ireturn, 1) := dk_172 (dk_at dksL_law_73 20 rfl rfl)
