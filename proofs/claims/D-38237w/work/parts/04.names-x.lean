/-! Haltingale -/
set_option maxRecDepth 100000
def RX1 : String := "Haltingale"
def TX1 : u_T := fun k => match k with
  | 0 => ("Haltingale", "machines", "Ljava/util/List;", true)
  | 1 => ("Haltingale", "tags", "Ljava/util/List;", true)
  | _ => ("Haltingale", "gate", "LHaltingale$Gate;", true)
def tyX1 : Nat → FieldType := fun k => match k with
  | 0 => .object "java/util/List"
  | 1 => .object "java/util/List"
  | _ => .object "Haltingale$Gate"
abbrev wsX10 : List Cond := u_ws RX1 TX1 3
theorem nmX1 : ∀ a, a < 3 → ∀ b, b < 3 → a ≠ b → (TX1 a).2.1 ≠ (TX1 b).2.1 := by decide +kernel
theorem tyX1_ok : ∀ k, k < 3 → parseFieldDescriptor (TX1 k).2.2.1 = some (tyX1 k) := by decide +kernel
abbrev cX1_init : ByteArray := prog_1_method_8_code
def yX1_init : MethodName := ⟨RX1, "<init>", "()V"⟩
def dkwX1_init_1 : List UInt8 := [181, 0, 134, 42, 187, 0, 137, 89, 183, 0, 139, 181, 0, 140, 177]
abbrev dktX1_init_1 : List UInt8 := dkwX1_init_1 ++ []
def dkwX1_init_0 : List UInt8 := [42, 183, 0, 127, 42, 187, 0, 46, 89, 183, 0, 48, 181, 0, 130, 42, 187, 0, 46, 89, 183, 0, 48]
abbrev dktX1_init_0 : List UInt8 := dkwX1_init_0 ++ dktX1_init_1
theorem dksX1_init_0 : cX1_init.data.toList.drop 0 = dktX1_init_0 := by decide +kernel
theorem dksX1_init_1 : cX1_init.data.toList.drop 23 = dktX1_init_1 := dk_seg dksX1_init_0 23 rfl rfl
theorem dX1_init_0 : decode cX1_init 0 = .ok (.aload_n 0, 1) := dk_42 (dk_at dksX1_init_0 0 rfl rfl)
theorem dX1_init_1 : decode cX1_init 1 = .ok (.invokespecial 127, 3) := dk_183 0 127 (dk_at dksX1_init_0 1 rfl rfl)
theorem dX1_init_4 : decode cX1_init 4 = .ok (.aload_n 0, 1) := dk_42 (dk_at dksX1_init_0 4 rfl rfl)
theorem dX1_init_5 : decode cX1_init 5 = .ok (.new 46, 3) := dk_187 0 46 (dk_at dksX1_init_0 5 rfl rfl)
theorem dX1_init_8 : decode cX1_init 8 = .ok (.dup, 1) := dk_89 (dk_at dksX1_init_0 8 rfl rfl)
theorem dX1_init_9 : decode cX1_init 9 = .ok (.invokespecial 48, 3) := dk_183 0 48 (dk_at dksX1_init_0 9 rfl rfl)
theorem dX1_init_12 : decode cX1_init 12 = .ok (.putfield 130, 3) := dk_181 0 130 (dk_at dksX1_init_0 12 rfl rfl)
theorem dX1_init_15 : decode cX1_init 15 = .ok (.aload_n 0, 1) := dk_42 (dk_at dksX1_init_0 15 rfl rfl)
theorem dX1_init_16 : decode cX1_init 16 = .ok (.new 46, 3) := dk_187 0 46 (dk_at dksX1_init_0 16 rfl rfl)
theorem dX1_init_19 : decode cX1_init 19 = .ok (.dup, 1) := dk_89 (dk_at dksX1_init_0 19 rfl rfl)
theorem dX1_init_20 : decode cX1_init 20 = .ok (.invokespecial 48, 3) := dk_183 0 48 (dk_at dksX1_init_0 20 rfl rfl)
theorem dX1_init_23 : decode cX1_init 23 = .ok (.putfield 134, 3) := dk_181 0 134 (dk_at dksX1_init_1 0 rfl rfl)
theorem dX1_init_26 : decode cX1_init 26 = .ok (.aload_n 0, 1) := dk_42 (dk_at dksX1_init_1 3 rfl rfl)
theorem dX1_init_27 : decode cX1_init 27 = .ok (.new 137, 3) := dk_187 0 137 (dk_at dksX1_init_1 4 rfl rfl)
theorem dX1_init_30 : decode cX1_init 30 = .ok (.dup, 1) := dk_89 (dk_at dksX1_init_1 7 rfl rfl)
theorem dX1_init_31 : decode cX1_init 31 = .ok (.invokespecial 139, 3) := dk_183 0 139 (dk_at dksX1_init_1 8 rfl rfl)
theorem dX1_init_34 : decode cX1_init 34 = .ok (.putfield 140, 3) := dk_181 0 140 (dk_at dksX1_init_1 11 rfl rfl)
theorem dX1_init_37 : decode cX1_init 37 = .ok (.return_, 1) := dk_177 (dk_at dksX1_init_1 14 rfl rfl)
abbrev cX1_meanStop : ByteArray := prog_1_method_48_code
def yX1_meanStop : MethodName := ⟨RX1, "meanStop", "()D"⟩
def dkwX1_meanStop_4 : List UInt8 := [135, 28, 135, 111, 175]
abbrev dktX1_meanStop_4 : List UInt8 := dkwX1_meanStop_4 ++ []
def dkwX1_meanStop_3 : List UInt8 := [182, 0, 191, 167, 0, 4, 3, 96, 61, 132, 3, 1, 167, 255, 179, 28, 154, 0, 7, 14, 167, 0, 8, 27]
abbrev dktX1_meanStop_3 : List UInt8 := dkwX1_meanStop_3 ++ dktX1_meanStop_4
def dkwX1_meanStop_2 : List UInt8 := [180, 1, 78, 167, 0, 4, 3, 96, 60, 28, 25, 4, 178, 0, 254, 182, 1, 34, 153, 0, 11, 25, 4]
abbrev dktX1_meanStop_2 : List UInt8 := dkwX1_meanStop_2 ++ dktX1_meanStop_3
def dkwX1_meanStop_1 : List UInt8 := [185, 0, 60, 2, 0, 192, 0, 160, 58, 4, 27, 25, 4, 178, 0, 254, 182, 1, 34, 153, 0, 11, 25, 4]
abbrev dktX1_meanStop_1 : List UInt8 := dkwX1_meanStop_1 ++ dktX1_meanStop_2
def dkwX1_meanStop_0 : List UInt8 := [3, 60, 3, 61, 3, 62, 29, 42, 180, 0, 130, 185, 0, 56, 1, 0, 162, 0, 70, 42, 180, 0, 130, 29]
abbrev dktX1_meanStop_0 : List UInt8 := dkwX1_meanStop_0 ++ dktX1_meanStop_1
theorem dksX1_meanStop_0 : cX1_meanStop.data.toList.drop 0 = dktX1_meanStop_0 := by decide +kernel
theorem dksX1_meanStop_1 : cX1_meanStop.data.toList.drop 24 = dktX1_meanStop_1 := dk_seg dksX1_meanStop_0 24 rfl rfl
theorem dksX1_meanStop_2 : cX1_meanStop.data.toList.drop 48 = dktX1_meanStop_2 := dk_seg dksX1_meanStop_1 24 rfl rfl
theorem dksX1_meanStop_3 : cX1_meanStop.data.toList.drop 71 = dktX1_meanStop_3 := dk_seg dksX1_meanStop_2 23 rfl rfl
theorem dksX1_meanStop_4 : cX1_meanStop.data.toList.drop 95 = dktX1_meanStop_4 := dk_seg dksX1_meanStop_3 24 rfl rfl
theorem dX1_meanStop_0 : decode cX1_meanStop 0 = .ok (.iconst 0, 1) := dk_3 (dk_at dksX1_meanStop_0 0 rfl rfl)
theorem dX1_meanStop_1 : decode cX1_meanStop 1 = .ok (.istore_n 1, 1) := dk_60 (dk_at dksX1_meanStop_0 1 rfl rfl)
theorem dX1_meanStop_2 : decode cX1_meanStop 2 = .ok (.iconst 0, 1) := dk_3 (dk_at dksX1_meanStop_0 2 rfl rfl)
theorem dX1_meanStop_3 : decode cX1_meanStop 3 = .ok (.istore_n 2, 1) := dk_61 (dk_at dksX1_meanStop_0 3 rfl rfl)
theorem dX1_meanStop_4 : decode cX1_meanStop 4 = .ok (.iconst 0, 1) := dk_3 (dk_at dksX1_meanStop_0 4 rfl rfl)
theorem dX1_meanStop_5 : decode cX1_meanStop 5 = .ok (.istore_n 3, 1) := dk_62 (dk_at dksX1_meanStop_0 5 rfl rfl)
theorem dX1_meanStop_6 : decode cX1_meanStop 6 = .ok (.iload_n 3, 1) := dk_29 (dk_at dksX1_meanStop_0 6 rfl rfl)
theorem dX1_meanStop_7 : decode cX1_meanStop 7 = .ok (.aload_n 0, 1) := dk_42 (dk_at dksX1_meanStop_0 7 rfl rfl)
theorem dX1_meanStop_8 : decode cX1_meanStop 8 = .ok (.getfield 130, 3) := dk_180 0 130 (dk_at dksX1_meanStop_0 8 rfl rfl)
theorem dX1_meanStop_11 : decode cX1_meanStop 11 = .ok (.invokeinterface 56 1, 5) := by decide +kernel
theorem dX1_meanStop_16 : decode cX1_meanStop 16 = .ok (.if_icmp .ge 70, 3) := dk_162 0 70 (dk_at dksX1_meanStop_0 16 rfl rfl)
theorem dX1_meanStop_19 : decode cX1_meanStop 19 = .ok (.aload_n 0, 1) := dk_42 (dk_at dksX1_meanStop_0 19 rfl rfl)
theorem dX1_meanStop_20 : decode cX1_meanStop 20 = .ok (.getfield 130, 3) := dk_180 0 130 (dk_at dksX1_meanStop_0 20 rfl rfl)
theorem dX1_meanStop_23 : decode cX1_meanStop 23 = .ok (.iload_n 3, 1) := dk_29 (dk_at dksX1_meanStop_0 23 rfl rfl)
theorem dX1_meanStop_24 : decode cX1_meanStop 24 = .ok (.invokeinterface 60 2, 5) := by decide +kernel
theorem dX1_meanStop_29 : decode cX1_meanStop 29 = .ok (.checkcast 160, 3) := dk_192 0 160 (dk_at dksX1_meanStop_1 5 rfl rfl)
theorem dX1_meanStop_32 : decode cX1_meanStop 32 = .ok (.astore 4, 2) := dk_58 4 (dk_at dksX1_meanStop_1 8 rfl rfl)
theorem dX1_meanStop_34 : decode cX1_meanStop 34 = .ok (.iload_n 1, 1) := dk_27 (dk_at dksX1_meanStop_1 10 rfl rfl)
theorem dX1_meanStop_35 : decode cX1_meanStop 35 = .ok (.aload 4, 2) := dk_25 4 (dk_at dksX1_meanStop_1 11 rfl rfl)
theorem dX1_meanStop_37 : decode cX1_meanStop 37 = .ok (.getstatic 254, 3) := dk_178 0 254 (dk_at dksX1_meanStop_1 13 rfl rfl)
theorem dX1_meanStop_40 : decode cX1_meanStop 40 = .ok (.invokevirtual 290, 3) := dk_182 1 34 (dk_at dksX1_meanStop_1 16 rfl rfl)
theorem dX1_meanStop_43 : decode cX1_meanStop 43 = .ok (.ifCond .eq 11, 3) := dk_153 0 11 (dk_at dksX1_meanStop_1 19 rfl rfl)
theorem dX1_meanStop_46 : decode cX1_meanStop 46 = .ok (.aload 4, 2) := dk_25 4 (dk_at dksX1_meanStop_1 22 rfl rfl)
theorem dX1_meanStop_48 : decode cX1_meanStop 48 = .ok (.getfield 334, 3) := dk_180 1 78 (dk_at dksX1_meanStop_2 0 rfl rfl)
theorem dX1_meanStop_51 : decode cX1_meanStop 51 = .ok (.goto 4, 3) := dk_167 0 4 (dk_at dksX1_meanStop_2 3 rfl rfl)
theorem dX1_meanStop_54 : decode cX1_meanStop 54 = .ok (.iconst 0, 1) := dk_3 (dk_at dksX1_meanStop_2 6 rfl rfl)
theorem dX1_meanStop_55 : decode cX1_meanStop 55 = .ok (.iadd, 1) := dk_96 (dk_at dksX1_meanStop_2 7 rfl rfl)
theorem dX1_meanStop_56 : decode cX1_meanStop 56 = .ok (.istore_n 1, 1) := dk_60 (dk_at dksX1_meanStop_2 8 rfl rfl)
theorem dX1_meanStop_57 : decode cX1_meanStop 57 = .ok (.iload_n 2, 1) := dk_28 (dk_at dksX1_meanStop_2 9 rfl rfl)
theorem dX1_meanStop_58 : decode cX1_meanStop 58 = .ok (.aload 4, 2) := dk_25 4 (dk_at dksX1_meanStop_2 10 rfl rfl)
theorem dX1_meanStop_60 : decode cX1_meanStop 60 = .ok (.getstatic 254, 3) := dk_178 0 254 (dk_at dksX1_meanStop_2 12 rfl rfl)
theorem dX1_meanStop_63 : decode cX1_meanStop 63 = .ok (.invokevirtual 290, 3) := dk_182 1 34 (dk_at dksX1_meanStop_2 15 rfl rfl)
theorem dX1_meanStop_66 : decode cX1_meanStop 66 = .ok (.ifCond .eq 11, 3) := dk_153 0 11 (dk_at dksX1_meanStop_2 18 rfl rfl)
theorem dX1_meanStop_69 : decode cX1_meanStop 69 = .ok (.aload 4, 2) := dk_25 4 (dk_at dksX1_meanStop_2 21 rfl rfl)
theorem dX1_meanStop_71 : decode cX1_meanStop 71 = .ok (.invokevirtual 191, 3) := dk_182 0 191 (dk_at dksX1_meanStop_3 0 rfl rfl)
theorem dX1_meanStop_74 : decode cX1_meanStop 74 = .ok (.goto 4, 3) := dk_167 0 4 (dk_at dksX1_meanStop_3 3 rfl rfl)
theorem dX1_meanStop_77 : decode cX1_meanStop 77 = .ok (.iconst 0, 1) := dk_3 (dk_at dksX1_meanStop_3 6 rfl rfl)
theorem dX1_meanStop_78 : decode cX1_meanStop 78 = .ok (.iadd, 1) := dk_96 (dk_at dksX1_meanStop_3 7 rfl rfl)
theorem dX1_meanStop_79 : decode cX1_meanStop 79 = .ok (.istore_n 2, 1) := dk_61 (dk_at dksX1_meanStop_3 8 rfl rfl)
theorem dX1_meanStop_80 : decode cX1_meanStop 80 = .ok (.iinc 3 1, 3) := dk_132 3 1 (dk_at dksX1_meanStop_3 9 rfl rfl)
theorem dX1_meanStop_83 : decode cX1_meanStop 83 = .ok (.goto (-77), 3) := dk_167 255 179 (dk_at dksX1_meanStop_3 12 rfl rfl)
theorem dX1_meanStop_86 : decode cX1_meanStop 86 = .ok (.iload_n 2, 1) := dk_28 (dk_at dksX1_meanStop_3 15 rfl rfl)
theorem dX1_meanStop_87 : decode cX1_meanStop 87 = .ok (.ifCond .ne 7, 3) := dk_154 0 7 (dk_at dksX1_meanStop_3 16 rfl rfl)
theorem dX1_meanStop_90 : decode cX1_meanStop 90 = .ok (.dconst 0, 1) := dk_14 (dk_at dksX1_meanStop_3 19 rfl rfl)
theorem dX1_meanStop_91 : decode cX1_meanStop 91 = .ok (.goto 8, 3) := dk_167 0 8 (dk_at dksX1_meanStop_3 20 rfl rfl)
theorem dX1_meanStop_94 : decode cX1_meanStop 94 = .ok (.iload_n 1, 1) := dk_27 (dk_at dksX1_meanStop_3 23 rfl rfl)
theorem dX1_meanStop_95 : decode cX1_meanStop 95 = .ok (.i2d, 1) := dk_135 (dk_at dksX1_meanStop_4 0 rfl rfl)
theorem dX1_meanStop_96 : decode cX1_meanStop 96 = .ok (.iload_n 2, 1) := dk_28 (dk_at dksX1_meanStop_4 1 rfl rfl)
theorem dX1_meanStop_97 : decode cX1_meanStop 97 = .ok (.i2d, 1) := dk_135 (dk_at dksX1_meanStop_4 2 rfl rfl)
theorem dX1_meanStop_98 : decode cX1_meanStop 98 = .ok (.ddiv, 1) := dk_111 (dk_at dksX1_meanStop_4 3 rfl rfl)
theorem dX1_meanStop_99 : decode cX1_meanStop 99 = .ok (.dreturn, 1) := dk_175 (dk_at dksX1_meanStop_4 4 rfl rfl)
abbrev cX1_digest : ByteArray := prog_1_method_55_code
def yX1_digest : MethodName := ⟨RX1, "digest", "()J"⟩
def dkwX1_digest_6 : List UInt8 := [182, 1, 154, 173]
abbrev dktX1_digest_6 : List UInt8 := dkwX1_digest_6 ++ []
def dkwX1_digest_5 : List UInt8 := [88, 132, 2, 1, 167, 255, 215, 43, 42, 3, 182, 1, 126, 182, 1, 154, 88, 43, 42, 4, 182, 1, 126]
abbrev dktX1_digest_5 : List UInt8 := dkwX1_digest_5 ++ dktX1_digest_6
def dkwX1_digest_4 : List UInt8 := [43, 42, 180, 0, 134, 28, 185, 0, 60, 2, 0, 192, 0, 240, 16, 10, 16, 9, 184, 1, 139, 182, 1, 154]
abbrev dktX1_digest_4 : List UInt8 := dkwX1_digest_4 ++ dktX1_digest_5
def dkwX1_digest_3 : List UInt8 := [184, 1, 164, 132, 2, 1, 167, 255, 223, 3, 61, 28, 42, 180, 0, 134, 185, 0, 56, 1, 0, 162, 0, 34]
abbrev dktX1_digest_3 : List UInt8 := dkwX1_digest_3 ++ dktX1_digest_4
def dkwX1_digest_2 : List UInt8 := [185, 0, 56, 1, 0, 162, 0, 26, 43, 42, 180, 0, 130, 28, 185, 0, 60, 2, 0, 192, 0, 160]
abbrev dktX1_digest_2 : List UInt8 := dkwX1_digest_2 ++ dktX1_digest_3
def dkwX1_digest_1 : List UInt8 := [182, 1, 148, 182, 1, 154, 88, 132, 2, 1, 167, 255, 237, 3, 61, 28, 42, 180, 0, 130]
abbrev dktX1_digest_1 : List UInt8 := dkwX1_digest_1 ++ dktX1_digest_2
def dkwX1_digest_0 : List UInt8 := [187, 1, 155, 89, 20, 1, 159, 183, 1, 161, 76, 3, 61, 28, 16, 10, 163, 0, 19, 43, 42, 28]
abbrev dktX1_digest_0 : List UInt8 := dkwX1_digest_0 ++ dktX1_digest_1
theorem dksX1_digest_0 : cX1_digest.data.toList.drop 0 = dktX1_digest_0 := by decide +kernel
theorem dksX1_digest_1 : cX1_digest.data.toList.drop 22 = dktX1_digest_1 := dk_seg dksX1_digest_0 22 rfl rfl
theorem dksX1_digest_2 : cX1_digest.data.toList.drop 42 = dktX1_digest_2 := dk_seg dksX1_digest_1 20 rfl rfl
theorem dksX1_digest_3 : cX1_digest.data.toList.drop 64 = dktX1_digest_3 := dk_seg dksX1_digest_2 22 rfl rfl
theorem dksX1_digest_4 : cX1_digest.data.toList.drop 88 = dktX1_digest_4 := dk_seg dksX1_digest_3 24 rfl rfl
theorem dksX1_digest_5 : cX1_digest.data.toList.drop 112 = dktX1_digest_5 := dk_seg dksX1_digest_4 24 rfl rfl
theorem dksX1_digest_6 : cX1_digest.data.toList.drop 135 = dktX1_digest_6 := dk_seg dksX1_digest_5 23 rfl rfl
theorem dX1_digest_0 : decode cX1_digest 0 = .ok (.new 411, 3) := dk_187 1 155 (dk_at dksX1_digest_0 0 rfl rfl)
theorem dX1_digest_3 : decode cX1_digest 3 = .ok (.dup, 1) := dk_89 (dk_at dksX1_digest_0 3 rfl rfl)
theorem dX1_digest_4 : decode cX1_digest 4 = .ok (.ldc2_w 415, 3) := dk_20 1 159 (dk_at dksX1_digest_0 4 rfl rfl)
theorem dX1_digest_7 : decode cX1_digest 7 = .ok (.invokespecial 417, 3) := dk_183 1 161 (dk_at dksX1_digest_0 7 rfl rfl)
theorem dX1_digest_10 : decode cX1_digest 10 = .ok (.astore_n 1, 1) := dk_76 (dk_at dksX1_digest_0 10 rfl rfl)
theorem dX1_digest_11 : decode cX1_digest 11 = .ok (.iconst 0, 1) := dk_3 (dk_at dksX1_digest_0 11 rfl rfl)
theorem dX1_digest_12 : decode cX1_digest 12 = .ok (.istore_n 2, 1) := dk_61 (dk_at dksX1_digest_0 12 rfl rfl)
theorem dX1_digest_13 : decode cX1_digest 13 = .ok (.iload_n 2, 1) := dk_28 (dk_at dksX1_digest_0 13 rfl rfl)
theorem dX1_digest_14 : decode cX1_digest 14 = .ok (.bipush 10, 2) := dk_16 10 (dk_at dksX1_digest_0 14 rfl rfl)
theorem dX1_digest_16 : decode cX1_digest 16 = .ok (.if_icmp .gt 19, 3) := dk_163 0 19 (dk_at dksX1_digest_0 16 rfl rfl)
theorem dX1_digest_19 : decode cX1_digest 19 = .ok (.aload_n 1, 1) := dk_43 (dk_at dksX1_digest_0 19 rfl rfl)
theorem dX1_digest_20 : decode cX1_digest 20 = .ok (.aload_n 0, 1) := dk_42 (dk_at dksX1_digest_0 20 rfl rfl)
theorem dX1_digest_21 : decode cX1_digest 21 = .ok (.iload_n 2, 1) := dk_28 (dk_at dksX1_digest_0 21 rfl rfl)
theorem dX1_digest_22 : decode cX1_digest 22 = .ok (.invokevirtual 404, 3) := dk_182 1 148 (dk_at dksX1_digest_1 0 rfl rfl)
theorem dX1_digest_25 : decode cX1_digest 25 = .ok (.invokevirtual 410, 3) := dk_182 1 154 (dk_at dksX1_digest_1 3 rfl rfl)
theorem dX1_digest_28 : decode cX1_digest 28 = .ok (.pop2, 1) := dk_88 (dk_at dksX1_digest_1 6 rfl rfl)
theorem dX1_digest_29 : decode cX1_digest 29 = .ok (.iinc 2 1, 3) := dk_132 2 1 (dk_at dksX1_digest_1 7 rfl rfl)
theorem dX1_digest_32 : decode cX1_digest 32 = .ok (.goto (-19), 3) := dk_167 255 237 (dk_at dksX1_digest_1 10 rfl rfl)
theorem dX1_digest_35 : decode cX1_digest 35 = .ok (.iconst 0, 1) := dk_3 (dk_at dksX1_digest_1 13 rfl rfl)
theorem dX1_digest_36 : decode cX1_digest 36 = .ok (.istore_n 2, 1) := dk_61 (dk_at dksX1_digest_1 14 rfl rfl)
theorem dX1_digest_37 : decode cX1_digest 37 = .ok (.iload_n 2, 1) := dk_28 (dk_at dksX1_digest_1 15 rfl rfl)
theorem dX1_digest_38 : decode cX1_digest 38 = .ok (.aload_n 0, 1) := dk_42 (dk_at dksX1_digest_1 16 rfl rfl)
theorem dX1_digest_39 : decode cX1_digest 39 = .ok (.getfield 130, 3) := dk_180 0 130 (dk_at dksX1_digest_1 17 rfl rfl)
theorem dX1_digest_42 : decode cX1_digest 42 = .ok (.invokeinterface 56 1, 5) := by decide +kernel
theorem dX1_digest_47 : decode cX1_digest 47 = .ok (.if_icmp .ge 26, 3) := dk_162 0 26 (dk_at dksX1_digest_2 5 rfl rfl)
theorem dX1_digest_50 : decode cX1_digest 50 = .ok (.aload_n 1, 1) := dk_43 (dk_at dksX1_digest_2 8 rfl rfl)
theorem dX1_digest_51 : decode cX1_digest 51 = .ok (.aload_n 0, 1) := dk_42 (dk_at dksX1_digest_2 9 rfl rfl)
theorem dX1_digest_52 : decode cX1_digest 52 = .ok (.getfield 130, 3) := dk_180 0 130 (dk_at dksX1_digest_2 10 rfl rfl)
theorem dX1_digest_55 : decode cX1_digest 55 = .ok (.iload_n 2, 1) := dk_28 (dk_at dksX1_digest_2 13 rfl rfl)
theorem dX1_digest_56 : decode cX1_digest 56 = .ok (.invokeinterface 60 2, 5) := by decide +kernel
theorem dX1_digest_61 : decode cX1_digest 61 = .ok (.checkcast 160, 3) := dk_192 0 160 (dk_at dksX1_digest_2 19 rfl rfl)
theorem dX1_digest_64 : decode cX1_digest 64 = .ok (.invokestatic 420, 3) := dk_184 1 164 (dk_at dksX1_digest_3 0 rfl rfl)
theorem dX1_digest_67 : decode cX1_digest 67 = .ok (.iinc 2 1, 3) := dk_132 2 1 (dk_at dksX1_digest_3 3 rfl rfl)
theorem dX1_digest_70 : decode cX1_digest 70 = .ok (.goto (-33), 3) := dk_167 255 223 (dk_at dksX1_digest_3 6 rfl rfl)
theorem dX1_digest_73 : decode cX1_digest 73 = .ok (.iconst 0, 1) := dk_3 (dk_at dksX1_digest_3 9 rfl rfl)
theorem dX1_digest_74 : decode cX1_digest 74 = .ok (.istore_n 2, 1) := dk_61 (dk_at dksX1_digest_3 10 rfl rfl)
theorem dX1_digest_75 : decode cX1_digest 75 = .ok (.iload_n 2, 1) := dk_28 (dk_at dksX1_digest_3 11 rfl rfl)
theorem dX1_digest_76 : decode cX1_digest 76 = .ok (.aload_n 0, 1) := dk_42 (dk_at dksX1_digest_3 12 rfl rfl)
theorem dX1_digest_77 : decode cX1_digest 77 = .ok (.getfield 134, 3) := dk_180 0 134 (dk_at dksX1_digest_3 13 rfl rfl)
theorem dX1_digest_80 : decode cX1_digest 80 = .ok (.invokeinterface 56 1, 5) := by decide +kernel
theorem dX1_digest_85 : decode cX1_digest 85 = .ok (.if_icmp .ge 34, 3) := dk_162 0 34 (dk_at dksX1_digest_3 21 rfl rfl)
theorem dX1_digest_88 : decode cX1_digest 88 = .ok (.aload_n 1, 1) := dk_43 (dk_at dksX1_digest_4 0 rfl rfl)
theorem dX1_digest_89 : decode cX1_digest 89 = .ok (.aload_n 0, 1) := dk_42 (dk_at dksX1_digest_4 1 rfl rfl)
theorem dX1_digest_90 : decode cX1_digest 90 = .ok (.getfield 134, 3) := dk_180 0 134 (dk_at dksX1_digest_4 2 rfl rfl)
theorem dX1_digest_93 : decode cX1_digest 93 = .ok (.iload_n 2, 1) := dk_28 (dk_at dksX1_digest_4 5 rfl rfl)
theorem dX1_digest_94 : decode cX1_digest 94 = .ok (.invokeinterface 60 2, 5) := by decide +kernel
theorem dX1_digest_99 : decode cX1_digest 99 = .ok (.checkcast 240, 3) := dk_192 0 240 (dk_at dksX1_digest_4 11 rfl rfl)
theorem dX1_digest_102 : decode cX1_digest 102 = .ok (.bipush 10, 2) := dk_16 10 (dk_at dksX1_digest_4 14 rfl rfl)
theorem dX1_digest_104 : decode cX1_digest 104 = .ok (.bipush 9, 2) := dk_16 9 (dk_at dksX1_digest_4 16 rfl rfl)
theorem dX1_digest_106 : decode cX1_digest 106 = .ok (.invokestatic 395, 3) := dk_184 1 139 (dk_at dksX1_digest_4 18 rfl rfl)
theorem dX1_digest_109 : decode cX1_digest 109 = .ok (.invokevirtual 410, 3) := dk_182 1 154 (dk_at dksX1_digest_4 21 rfl rfl)
theorem dX1_digest_112 : decode cX1_digest 112 = .ok (.pop2, 1) := dk_88 (dk_at dksX1_digest_5 0 rfl rfl)
theorem dX1_digest_113 : decode cX1_digest 113 = .ok (.iinc 2 1, 3) := dk_132 2 1 (dk_at dksX1_digest_5 1 rfl rfl)
theorem dX1_digest_116 : decode cX1_digest 116 = .ok (.goto (-41), 3) := dk_167 255 215 (dk_at dksX1_digest_5 4 rfl rfl)
theorem dX1_digest_119 : decode cX1_digest 119 = .ok (.aload_n 1, 1) := dk_43 (dk_at dksX1_digest_5 7 rfl rfl)
theorem dX1_digest_120 : decode cX1_digest 120 = .ok (.aload_n 0, 1) := dk_42 (dk_at dksX1_digest_5 8 rfl rfl)
theorem dX1_digest_121 : decode cX1_digest 121 = .ok (.iconst 0, 1) := dk_3 (dk_at dksX1_digest_5 9 rfl rfl)
theorem dX1_digest_122 : decode cX1_digest 122 = .ok (.invokevirtual 382, 3) := dk_182 1 126 (dk_at dksX1_digest_5 10 rfl rfl)
theorem dX1_digest_125 : decode cX1_digest 125 = .ok (.invokevirtual 410, 3) := dk_182 1 154 (dk_at dksX1_digest_5 13 rfl rfl)
theorem dX1_digest_128 : decode cX1_digest 128 = .ok (.pop2, 1) := dk_88 (dk_at dksX1_digest_5 16 rfl rfl)
theorem dX1_digest_129 : decode cX1_digest 129 = .ok (.aload_n 1, 1) := dk_43 (dk_at dksX1_digest_5 17 rfl rfl)
theorem dX1_digest_130 : decode cX1_digest 130 = .ok (.aload_n 0, 1) := dk_42 (dk_at dksX1_digest_5 18 rfl rfl)
theorem dX1_digest_131 : decode cX1_digest 131 = .ok (.iconst 1, 1) := dk_4 (dk_at dksX1_digest_5 19 rfl rfl)
theorem dX1_digest_132 : decode cX1_digest 132 = .ok (.invokevirtual 382, 3) := dk_182 1 126 (dk_at dksX1_digest_5 20 rfl rfl)
theorem dX1_digest_135 : decode cX1_digest 135 = .ok (.invokevirtual 410, 3) := dk_182 1 154 (dk_at dksX1_digest_6 0 rfl rfl)
theorem dX1_digest_138 : decode cX1_digest 138 = .ok (.lreturn, 1) := dk_173 (dk_at dksX1_digest_6 3 rfl rfl)
abbrev cX1_manyNow : ByteArray := prog_1_method_46_code
def yX1_manyNow : MethodName := ⟨RX1, "manyNow", "(I)I"⟩
def dkwX1_manyNow_10 : List UInt8 := [132, 3, 1, 167, 255, 218, 28, 172, 42, 27, 5, 100, 184, 1, 13, 182, 1, 144, 172]
abbrev dktX1_manyNow_10 : List UInt8 := dkwX1_manyNow_10 ++ []
def dkwX1_manyNow_9 : List UInt8 := [28, 42, 180, 0, 130, 29, 185, 0, 60, 2, 0, 192, 0, 160, 180, 0, 166, 182, 0, 213, 96, 61]
abbrev dktX1_manyNow_9 : List UInt8 := dkwX1_manyNow_9 ++ dktX1_manyNow_10
def dkwX1_manyNow_8 : List UInt8 := [172, 42, 180, 0, 140, 180, 0, 188, 172, 3, 62, 29, 42, 180, 0, 130, 185, 0, 56, 1, 0, 162, 0, 31]
abbrev dktX1_manyNow_8 : List UInt8 := dkwX1_manyNow_8 ++ dktX1_manyNow_9
def dkwX1_manyNow_7 : List UInt8 := [172, 42, 180, 0, 140, 180, 0, 243, 42, 180, 0, 140, 180, 0, 251, 96, 172, 42, 180, 0, 140, 180, 0, 243]
abbrev dktX1_manyNow_7 : List UInt8 := dkwX1_manyNow_7 ++ dktX1_manyNow_8
def dkwX1_manyNow_6 : List UInt8 := [180, 0, 134, 29, 185, 0, 60, 2, 0, 192, 0, 240, 182, 1, 143, 96, 61, 132, 3, 1, 167, 255, 221, 28]
abbrev dktX1_manyNow_6 : List UInt8 := dkwX1_manyNow_6 ++ dktX1_manyNow_7
def dkwX1_manyNow_5 : List UInt8 := [167, 255, 198, 28, 172, 3, 62, 29, 42, 180, 0, 134, 185, 0, 56, 1, 0, 162, 0, 28, 28, 42]
abbrev dktX1_manyNow_5 : List UInt8 := dkwX1_manyNow_5 ++ dktX1_manyNow_6
def dkwX1_manyNow_4 : List UInt8 := [167, 0, 19, 42, 180, 0, 130, 29, 185, 0, 60, 2, 0, 192, 0, 160, 182, 0, 191, 96, 61, 132, 3, 1]
abbrev dktX1_manyNow_4 : List UInt8 := dkwX1_manyNow_4 ++ dktX1_manyNow_5
def dkwX1_manyNow_3 : List UInt8 := [162, 0, 51, 28, 42, 180, 0, 130, 29, 185, 0, 60, 2, 0, 192, 0, 160, 182, 1, 20, 153, 0, 7, 3]
abbrev dktX1_manyNow_3 : List UInt8 := dkwX1_manyNow_3 ++ dktX1_manyNow_4
def dkwX1_manyNow_2 : List UInt8 := [42, 180, 0, 130, 185, 0, 56, 1, 0, 172, 3, 62, 29, 42, 180, 0, 130, 185, 0, 56, 1, 0]
abbrev dktX1_manyNow_2 : List UInt8 := dkwX1_manyNow_2 ++ dktX1_manyNow_3
def dkwX1_manyNow_1 : List UInt8 := [170, 0, 0, 0, 251, 0, 0, 0, 0, 0, 0, 0, 10, 0, 0, 0, 57, 0, 0, 0, 67, 0, 0, 0, 251, 0, 0, 0, 251, 0, 0, 0, 251, 0, 0, 0, 251, 0, 0, 0, 132, 0, 0, 0, 174, 0, 0, 0, 190, 0, 0, 0, 198, 0, 0, 0, 206]
abbrev dktX1_manyNow_1 : List UInt8 := dkwX1_manyNow_1 ++ dktX1_manyNow_2
def dkwX1_manyNow_0 : List UInt8 := [3, 61, 27]
abbrev dktX1_manyNow_0 : List UInt8 := dkwX1_manyNow_0 ++ dktX1_manyNow_1
theorem dksX1_manyNow_0 : cX1_manyNow.data.toList.drop 0 = dktX1_manyNow_0 := by decide +kernel
theorem dksX1_manyNow_1 : cX1_manyNow.data.toList.drop 3 = dktX1_manyNow_1 := dk_seg dksX1_manyNow_0 3 rfl rfl
theorem dksX1_manyNow_2 : cX1_manyNow.data.toList.drop 60 = dktX1_manyNow_2 := dk_seg dksX1_manyNow_1 57 rfl rfl
theorem dksX1_manyNow_3 : cX1_manyNow.data.toList.drop 82 = dktX1_manyNow_3 := dk_seg dksX1_manyNow_2 22 rfl rfl
theorem dksX1_manyNow_4 : cX1_manyNow.data.toList.drop 106 = dktX1_manyNow_4 := dk_seg dksX1_manyNow_3 24 rfl rfl
theorem dksX1_manyNow_5 : cX1_manyNow.data.toList.drop 130 = dktX1_manyNow_5 := dk_seg dksX1_manyNow_4 24 rfl rfl
theorem dksX1_manyNow_6 : cX1_manyNow.data.toList.drop 152 = dktX1_manyNow_6 := dk_seg dksX1_manyNow_5 22 rfl rfl
theorem dksX1_manyNow_7 : cX1_manyNow.data.toList.drop 176 = dktX1_manyNow_7 := dk_seg dksX1_manyNow_6 24 rfl rfl
theorem dksX1_manyNow_8 : cX1_manyNow.data.toList.drop 200 = dktX1_manyNow_8 := dk_seg dksX1_manyNow_7 24 rfl rfl
theorem dksX1_manyNow_9 : cX1_manyNow.data.toList.drop 224 = dktX1_manyNow_9 := dk_seg dksX1_manyNow_8 24 rfl rfl
theorem dksX1_manyNow_10 : cX1_manyNow.data.toList.drop 246 = dktX1_manyNow_10 := dk_seg dksX1_manyNow_9 22 rfl rfl
theorem dX1_manyNow_0 : decode cX1_manyNow 0 = .ok (.iconst 0, 1) := dk_3 (dk_at dksX1_manyNow_0 0 rfl rfl)
theorem dX1_manyNow_1 : decode cX1_manyNow 1 = .ok (.istore_n 2, 1) := dk_61 (dk_at dksX1_manyNow_0 1 rfl rfl)
theorem dX1_manyNow_2 : decode cX1_manyNow 2 = .ok (.iload_n 1, 1) := dk_27 (dk_at dksX1_manyNow_0 2 rfl rfl)
theorem dX1_manyNow_3 : decode cX1_manyNow 3 = .ok (.tableswitch 251 0 10 #[57, 67, 251, 251, 251, 251, 132, 174, 190, 198, 206], 57) := by decide +kernel
theorem dX1_manyNow_60 : decode cX1_manyNow 60 = .ok (.aload_n 0, 1) := dk_42 (dk_at dksX1_manyNow_2 0 rfl rfl)
theorem dX1_manyNow_61 : decode cX1_manyNow 61 = .ok (.getfield 130, 3) := dk_180 0 130 (dk_at dksX1_manyNow_2 1 rfl rfl)
theorem dX1_manyNow_64 : decode cX1_manyNow 64 = .ok (.invokeinterface 56 1, 5) := by decide +kernel
theorem dX1_manyNow_69 : decode cX1_manyNow 69 = .ok (.ireturn, 1) := dk_172 (dk_at dksX1_manyNow_2 9 rfl rfl)
theorem dX1_manyNow_70 : decode cX1_manyNow 70 = .ok (.iconst 0, 1) := dk_3 (dk_at dksX1_manyNow_2 10 rfl rfl)
theorem dX1_manyNow_71 : decode cX1_manyNow 71 = .ok (.istore_n 3, 1) := dk_62 (dk_at dksX1_manyNow_2 11 rfl rfl)
theorem dX1_manyNow_72 : decode cX1_manyNow 72 = .ok (.iload_n 3, 1) := dk_29 (dk_at dksX1_manyNow_2 12 rfl rfl)
theorem dX1_manyNow_73 : decode cX1_manyNow 73 = .ok (.aload_n 0, 1) := dk_42 (dk_at dksX1_manyNow_2 13 rfl rfl)
theorem dX1_manyNow_74 : decode cX1_manyNow 74 = .ok (.getfield 130, 3) := dk_180 0 130 (dk_at dksX1_manyNow_2 14 rfl rfl)
theorem dX1_manyNow_77 : decode cX1_manyNow 77 = .ok (.invokeinterface 56 1, 5) := by decide +kernel
theorem dX1_manyNow_82 : decode cX1_manyNow 82 = .ok (.if_icmp .ge 51, 3) := dk_162 0 51 (dk_at dksX1_manyNow_3 0 rfl rfl)
theorem dX1_manyNow_85 : decode cX1_manyNow 85 = .ok (.iload_n 2, 1) := dk_28 (dk_at dksX1_manyNow_3 3 rfl rfl)
theorem dX1_manyNow_86 : decode cX1_manyNow 86 = .ok (.aload_n 0, 1) := dk_42 (dk_at dksX1_manyNow_3 4 rfl rfl)
theorem dX1_manyNow_87 : decode cX1_manyNow 87 = .ok (.getfield 130, 3) := dk_180 0 130 (dk_at dksX1_manyNow_3 5 rfl rfl)
theorem dX1_manyNow_90 : decode cX1_manyNow 90 = .ok (.iload_n 3, 1) := dk_29 (dk_at dksX1_manyNow_3 8 rfl rfl)
theorem dX1_manyNow_91 : decode cX1_manyNow 91 = .ok (.invokeinterface 60 2, 5) := by decide +kernel
theorem dX1_manyNow_96 : decode cX1_manyNow 96 = .ok (.checkcast 160, 3) := dk_192 0 160 (dk_at dksX1_manyNow_3 14 rfl rfl)
theorem dX1_manyNow_99 : decode cX1_manyNow 99 = .ok (.invokevirtual 276, 3) := dk_182 1 20 (dk_at dksX1_manyNow_3 17 rfl rfl)
theorem dX1_manyNow_102 : decode cX1_manyNow 102 = .ok (.ifCond .eq 7, 3) := dk_153 0 7 (dk_at dksX1_manyNow_3 20 rfl rfl)
theorem dX1_manyNow_105 : decode cX1_manyNow 105 = .ok (.iconst 0, 1) := dk_3 (dk_at dksX1_manyNow_3 23 rfl rfl)
theorem dX1_manyNow_106 : decode cX1_manyNow 106 = .ok (.goto 19, 3) := dk_167 0 19 (dk_at dksX1_manyNow_4 0 rfl rfl)
theorem dX1_manyNow_109 : decode cX1_manyNow 109 = .ok (.aload_n 0, 1) := dk_42 (dk_at dksX1_manyNow_4 3 rfl rfl)
theorem dX1_manyNow_110 : decode cX1_manyNow 110 = .ok (.getfield 130, 3) := dk_180 0 130 (dk_at dksX1_manyNow_4 4 rfl rfl)
theorem dX1_manyNow_113 : decode cX1_manyNow 113 = .ok (.iload_n 3, 1) := dk_29 (dk_at dksX1_manyNow_4 7 rfl rfl)
theorem dX1_manyNow_114 : decode cX1_manyNow 114 = .ok (.invokeinterface 60 2, 5) := by decide +kernel
theorem dX1_manyNow_119 : decode cX1_manyNow 119 = .ok (.checkcast 160, 3) := dk_192 0 160 (dk_at dksX1_manyNow_4 13 rfl rfl)
theorem dX1_manyNow_122 : decode cX1_manyNow 122 = .ok (.invokevirtual 191, 3) := dk_182 0 191 (dk_at dksX1_manyNow_4 16 rfl rfl)
theorem dX1_manyNow_125 : decode cX1_manyNow 125 = .ok (.iadd, 1) := dk_96 (dk_at dksX1_manyNow_4 19 rfl rfl)
theorem dX1_manyNow_126 : decode cX1_manyNow 126 = .ok (.istore_n 2, 1) := dk_61 (dk_at dksX1_manyNow_4 20 rfl rfl)
theorem dX1_manyNow_127 : decode cX1_manyNow 127 = .ok (.iinc 3 1, 3) := dk_132 3 1 (dk_at dksX1_manyNow_4 21 rfl rfl)
theorem dX1_manyNow_130 : decode cX1_manyNow 130 = .ok (.goto (-58), 3) := dk_167 255 198 (dk_at dksX1_manyNow_5 0 rfl rfl)
theorem dX1_manyNow_133 : decode cX1_manyNow 133 = .ok (.iload_n 2, 1) := dk_28 (dk_at dksX1_manyNow_5 3 rfl rfl)
theorem dX1_manyNow_134 : decode cX1_manyNow 134 = .ok (.ireturn, 1) := dk_172 (dk_at dksX1_manyNow_5 4 rfl rfl)
theorem dX1_manyNow_135 : decode cX1_manyNow 135 = .ok (.iconst 0, 1) := dk_3 (dk_at dksX1_manyNow_5 5 rfl rfl)
theorem dX1_manyNow_136 : decode cX1_manyNow 136 = .ok (.istore_n 3, 1) := dk_62 (dk_at dksX1_manyNow_5 6 rfl rfl)
theorem dX1_manyNow_137 : decode cX1_manyNow 137 = .ok (.iload_n 3, 1) := dk_29 (dk_at dksX1_manyNow_5 7 rfl rfl)
theorem dX1_manyNow_138 : decode cX1_manyNow 138 = .ok (.aload_n 0, 1) := dk_42 (dk_at dksX1_manyNow_5 8 rfl rfl)
theorem dX1_manyNow_139 : decode cX1_manyNow 139 = .ok (.getfield 134, 3) := dk_180 0 134 (dk_at dksX1_manyNow_5 9 rfl rfl)
theorem dX1_manyNow_142 : decode cX1_manyNow 142 = .ok (.invokeinterface 56 1, 5) := by decide +kernel
theorem dX1_manyNow_147 : decode cX1_manyNow 147 = .ok (.if_icmp .ge 28, 3) := dk_162 0 28 (dk_at dksX1_manyNow_5 17 rfl rfl)
theorem dX1_manyNow_150 : decode cX1_manyNow 150 = .ok (.iload_n 2, 1) := dk_28 (dk_at dksX1_manyNow_5 20 rfl rfl)
theorem dX1_manyNow_151 : decode cX1_manyNow 151 = .ok (.aload_n 0, 1) := dk_42 (dk_at dksX1_manyNow_5 21 rfl rfl)
theorem dX1_manyNow_152 : decode cX1_manyNow 152 = .ok (.getfield 134, 3) := dk_180 0 134 (dk_at dksX1_manyNow_6 0 rfl rfl)
theorem dX1_manyNow_155 : decode cX1_manyNow 155 = .ok (.iload_n 3, 1) := dk_29 (dk_at dksX1_manyNow_6 3 rfl rfl)
theorem dX1_manyNow_156 : decode cX1_manyNow 156 = .ok (.invokeinterface 60 2, 5) := by decide +kernel
theorem dX1_manyNow_161 : decode cX1_manyNow 161 = .ok (.checkcast 240, 3) := dk_192 0 240 (dk_at dksX1_manyNow_6 9 rfl rfl)
theorem dX1_manyNow_164 : decode cX1_manyNow 164 = .ok (.invokevirtual 399, 3) := dk_182 1 143 (dk_at dksX1_manyNow_6 12 rfl rfl)
theorem dX1_manyNow_167 : decode cX1_manyNow 167 = .ok (.iadd, 1) := dk_96 (dk_at dksX1_manyNow_6 15 rfl rfl)
theorem dX1_manyNow_168 : decode cX1_manyNow 168 = .ok (.istore_n 2, 1) := dk_61 (dk_at dksX1_manyNow_6 16 rfl rfl)
theorem dX1_manyNow_169 : decode cX1_manyNow 169 = .ok (.iinc 3 1, 3) := dk_132 3 1 (dk_at dksX1_manyNow_6 17 rfl rfl)
theorem dX1_manyNow_172 : decode cX1_manyNow 172 = .ok (.goto (-35), 3) := dk_167 255 221 (dk_at dksX1_manyNow_6 20 rfl rfl)
theorem dX1_manyNow_175 : decode cX1_manyNow 175 = .ok (.iload_n 2, 1) := dk_28 (dk_at dksX1_manyNow_6 23 rfl rfl)
theorem dX1_manyNow_176 : decode cX1_manyNow 176 = .ok (.ireturn, 1) := dk_172 (dk_at dksX1_manyNow_7 0 rfl rfl)
theorem dX1_manyNow_177 : decode cX1_manyNow 177 = .ok (.aload_n 0, 1) := dk_42 (dk_at dksX1_manyNow_7 1 rfl rfl)
theorem dX1_manyNow_178 : decode cX1_manyNow 178 = .ok (.getfield 140, 3) := dk_180 0 140 (dk_at dksX1_manyNow_7 2 rfl rfl)
theorem dX1_manyNow_181 : decode cX1_manyNow 181 = .ok (.getfield 243, 3) := dk_180 0 243 (dk_at dksX1_manyNow_7 5 rfl rfl)
theorem dX1_manyNow_184 : decode cX1_manyNow 184 = .ok (.aload_n 0, 1) := dk_42 (dk_at dksX1_manyNow_7 8 rfl rfl)
theorem dX1_manyNow_185 : decode cX1_manyNow 185 = .ok (.getfield 140, 3) := dk_180 0 140 (dk_at dksX1_manyNow_7 9 rfl rfl)
theorem dX1_manyNow_188 : decode cX1_manyNow 188 = .ok (.getfield 251, 3) := dk_180 0 251 (dk_at dksX1_manyNow_7 12 rfl rfl)
theorem dX1_manyNow_191 : decode cX1_manyNow 191 = .ok (.iadd, 1) := dk_96 (dk_at dksX1_manyNow_7 15 rfl rfl)
theorem dX1_manyNow_192 : decode cX1_manyNow 192 = .ok (.ireturn, 1) := dk_172 (dk_at dksX1_manyNow_7 16 rfl rfl)
theorem dX1_manyNow_193 : decode cX1_manyNow 193 = .ok (.aload_n 0, 1) := dk_42 (dk_at dksX1_manyNow_7 17 rfl rfl)
theorem dX1_manyNow_194 : decode cX1_manyNow 194 = .ok (.getfield 140, 3) := dk_180 0 140 (dk_at dksX1_manyNow_7 18 rfl rfl)
theorem dX1_manyNow_197 : decode cX1_manyNow 197 = .ok (.getfield 243, 3) := dk_180 0 243 (dk_at dksX1_manyNow_7 21 rfl rfl)
theorem dX1_manyNow_200 : decode cX1_manyNow 200 = .ok (.ireturn, 1) := dk_172 (dk_at dksX1_manyNow_8 0 rfl rfl)
theorem dX1_manyNow_201 : decode cX1_manyNow 201 = .ok (.aload_n 0, 1) := dk_42 (dk_at dksX1_manyNow_8 1 rfl rfl)
theorem dX1_manyNow_202 : decode cX1_manyNow 202 = .ok (.getfield 140, 3) := dk_180 0 140 (dk_at dksX1_manyNow_8 2 rfl rfl)
theorem dX1_manyNow_205 : decode cX1_manyNow 205 = .ok (.getfield 188, 3) := dk_180 0 188 (dk_at dksX1_manyNow_8 5 rfl rfl)
theorem dX1_manyNow_208 : decode cX1_manyNow 208 = .ok (.ireturn, 1) := dk_172 (dk_at dksX1_manyNow_8 8 rfl rfl)
theorem dX1_manyNow_209 : decode cX1_manyNow 209 = .ok (.iconst 0, 1) := dk_3 (dk_at dksX1_manyNow_8 9 rfl rfl)
theorem dX1_manyNow_210 : decode cX1_manyNow 210 = .ok (.istore_n 3, 1) := dk_62 (dk_at dksX1_manyNow_8 10 rfl rfl)
theorem dX1_manyNow_211 : decode cX1_manyNow 211 = .ok (.iload_n 3, 1) := dk_29 (dk_at dksX1_manyNow_8 11 rfl rfl)
theorem dX1_manyNow_212 : decode cX1_manyNow 212 = .ok (.aload_n 0, 1) := dk_42 (dk_at dksX1_manyNow_8 12 rfl rfl)
theorem dX1_manyNow_213 : decode cX1_manyNow 213 = .ok (.getfield 130, 3) := dk_180 0 130 (dk_at dksX1_manyNow_8 13 rfl rfl)
theorem dX1_manyNow_216 : decode cX1_manyNow 216 = .ok (.invokeinterface 56 1, 5) := by decide +kernel
theorem dX1_manyNow_221 : decode cX1_manyNow 221 = .ok (.if_icmp .ge 31, 3) := dk_162 0 31 (dk_at dksX1_manyNow_8 21 rfl rfl)
theorem dX1_manyNow_224 : decode cX1_manyNow 224 = .ok (.iload_n 2, 1) := dk_28 (dk_at dksX1_manyNow_9 0 rfl rfl)
theorem dX1_manyNow_225 : decode cX1_manyNow 225 = .ok (.aload_n 0, 1) := dk_42 (dk_at dksX1_manyNow_9 1 rfl rfl)
theorem dX1_manyNow_226 : decode cX1_manyNow 226 = .ok (.getfield 130, 3) := dk_180 0 130 (dk_at dksX1_manyNow_9 2 rfl rfl)
theorem dX1_manyNow_229 : decode cX1_manyNow 229 = .ok (.iload_n 3, 1) := dk_29 (dk_at dksX1_manyNow_9 5 rfl rfl)
theorem dX1_manyNow_230 : decode cX1_manyNow 230 = .ok (.invokeinterface 60 2, 5) := by decide +kernel
theorem dX1_manyNow_235 : decode cX1_manyNow 235 = .ok (.checkcast 160, 3) := dk_192 0 160 (dk_at dksX1_manyNow_9 11 rfl rfl)
theorem dX1_manyNow_238 : decode cX1_manyNow 238 = .ok (.getfield 166, 3) := dk_180 0 166 (dk_at dksX1_manyNow_9 14 rfl rfl)
theorem dX1_manyNow_241 : decode cX1_manyNow 241 = .ok (.invokevirtual 213, 3) := dk_182 0 213 (dk_at dksX1_manyNow_9 17 rfl rfl)
theorem dX1_manyNow_244 : decode cX1_manyNow 244 = .ok (.iadd, 1) := dk_96 (dk_at dksX1_manyNow_9 20 rfl rfl)
theorem dX1_manyNow_245 : decode cX1_manyNow 245 = .ok (.istore_n 2, 1) := dk_61 (dk_at dksX1_manyNow_9 21 rfl rfl)
theorem dX1_manyNow_246 : decode cX1_manyNow 246 = .ok (.iinc 3 1, 3) := dk_132 3 1 (dk_at dksX1_manyNow_10 0 rfl rfl)
theorem dX1_manyNow_249 : decode cX1_manyNow 249 = .ok (.goto (-38), 3) := dk_167 255 218 (dk_at dksX1_manyNow_10 3 rfl rfl)
theorem dX1_manyNow_252 : decode cX1_manyNow 252 = .ok (.iload_n 2, 1) := dk_28 (dk_at dksX1_manyNow_10 6 rfl rfl)
theorem dX1_manyNow_253 : decode cX1_manyNow 253 = .ok (.ireturn, 1) := dk_172 (dk_at dksX1_manyNow_10 7 rfl rfl)
theorem dX1_manyNow_254 : decode cX1_manyNow 254 = .ok (.aload_n 0, 1) := dk_42 (dk_at dksX1_manyNow_10 8 rfl rfl)
theorem dX1_manyNow_255 : decode cX1_manyNow 255 = .ok (.iload_n 1, 1) := dk_27 (dk_at dksX1_manyNow_10 9 rfl rfl)
theorem dX1_manyNow_256 : decode cX1_manyNow 256 = .ok (.iconst 2, 1) := dk_5 (dk_at dksX1_manyNow_10 10 rfl rfl)
theorem dX1_manyNow_257 : decode cX1_manyNow 257 = .ok (.isub, 1) := dk_100 (dk_at dksX1_manyNow_10 11 rfl rfl)
theorem dX1_manyNow_258 : decode cX1_manyNow 258 = .ok (.invokestatic 269, 3) := dk_184 1 13 (dk_at dksX1_manyNow_10 12 rfl rfl)
theorem dX1_manyNow_261 : decode cX1_manyNow 261 = .ok (.invokevirtual 400, 3) := dk_182 1 144 (dk_at dksX1_manyNow_10 15 rfl rfl)
theorem dX1_manyNow_264 : decode cX1_manyNow 264 = .ok (.ireturn, 1) := dk_172 (dk_at dksX1_manyNow_10 18 rfl rfl)
abbrev cX1_kindOf : ByteArray := prog_1_method_25_code
def yX1_kindOf : MethodName := ⟨RX1, "kindOf", "(I)LHaltingale$Kind;"⟩
def dkwX1_kindOf_1 : List UInt8 := [167, 0, 17, 26, 5, 160, 0, 9, 178, 1, 7, 167, 0, 6, 178, 1, 10, 176]
abbrev dktX1_kindOf_1 : List UInt8 := dkwX1_kindOf_1 ++ []
def dkwX1_kindOf_0 : List UInt8 := [26, 3, 6, 184, 0, 170, 26, 154, 0, 9, 178, 0, 254, 167, 0, 28, 26, 4, 160, 0, 9, 178, 1, 4]
abbrev dktX1_kindOf_0 : List UInt8 := dkwX1_kindOf_0 ++ dktX1_kindOf_1
theorem dksX1_kindOf_0 : cX1_kindOf.data.toList.drop 0 = dktX1_kindOf_0 := by decide +kernel
theorem dksX1_kindOf_1 : cX1_kindOf.data.toList.drop 24 = dktX1_kindOf_1 := dk_seg dksX1_kindOf_0 24 rfl rfl
theorem dX1_kindOf_0 : decode cX1_kindOf 0 = .ok (.iload_n 0, 1) := dk_26 (dk_at dksX1_kindOf_0 0 rfl rfl)
theorem dX1_kindOf_1 : decode cX1_kindOf 1 = .ok (.iconst 0, 1) := dk_3 (dk_at dksX1_kindOf_0 1 rfl rfl)
theorem dX1_kindOf_2 : decode cX1_kindOf 2 = .ok (.iconst 3, 1) := dk_6 (dk_at dksX1_kindOf_0 2 rfl rfl)
theorem dX1_kindOf_3 : decode cX1_kindOf 3 = .ok (.invokestatic 170, 3) := dk_184 0 170 (dk_at dksX1_kindOf_0 3 rfl rfl)
theorem dX1_kindOf_6 : decode cX1_kindOf 6 = .ok (.iload_n 0, 1) := dk_26 (dk_at dksX1_kindOf_0 6 rfl rfl)
theorem dX1_kindOf_7 : decode cX1_kindOf 7 = .ok (.ifCond .ne 9, 3) := dk_154 0 9 (dk_at dksX1_kindOf_0 7 rfl rfl)
theorem dX1_kindOf_10 : decode cX1_kindOf 10 = .ok (.getstatic 254, 3) := dk_178 0 254 (dk_at dksX1_kindOf_0 10 rfl rfl)
theorem dX1_kindOf_13 : decode cX1_kindOf 13 = .ok (.goto 28, 3) := dk_167 0 28 (dk_at dksX1_kindOf_0 13 rfl rfl)
theorem dX1_kindOf_16 : decode cX1_kindOf 16 = .ok (.iload_n 0, 1) := dk_26 (dk_at dksX1_kindOf_0 16 rfl rfl)
theorem dX1_kindOf_17 : decode cX1_kindOf 17 = .ok (.iconst 1, 1) := dk_4 (dk_at dksX1_kindOf_0 17 rfl rfl)
theorem dX1_kindOf_18 : decode cX1_kindOf 18 = .ok (.if_icmp .ne 9, 3) := dk_160 0 9 (dk_at dksX1_kindOf_0 18 rfl rfl)
theorem dX1_kindOf_21 : decode cX1_kindOf 21 = .ok (.getstatic 260, 3) := dk_178 1 4 (dk_at dksX1_kindOf_0 21 rfl rfl)
theorem dX1_kindOf_24 : decode cX1_kindOf 24 = .ok (.goto 17, 3) := dk_167 0 17 (dk_at dksX1_kindOf_1 0 rfl rfl)
theorem dX1_kindOf_27 : decode cX1_kindOf 27 = .ok (.iload_n 0, 1) := dk_26 (dk_at dksX1_kindOf_1 3 rfl rfl)
theorem dX1_kindOf_28 : decode cX1_kindOf 28 = .ok (.iconst 2, 1) := dk_5 (dk_at dksX1_kindOf_1 4 rfl rfl)
theorem dX1_kindOf_29 : decode cX1_kindOf 29 = .ok (.if_icmp .ne 9, 3) := dk_160 0 9 (dk_at dksX1_kindOf_1 5 rfl rfl)
theorem dX1_kindOf_32 : decode cX1_kindOf 32 = .ok (.getstatic 263, 3) := dk_178 1 7 (dk_at dksX1_kindOf_1 8 rfl rfl)
theorem dX1_kindOf_35 : decode cX1_kindOf 35 = .ok (.goto 6, 3) := dk_167 0 6 (dk_at dksX1_kindOf_1 11 rfl rfl)
theorem dX1_kindOf_38 : decode cX1_kindOf 38 = .ok (.getstatic 266, 3) := dk_178 1 10 (dk_at dksX1_kindOf_1 14 rfl rfl)
theorem dX1_kindOf_41 : decode cX1_kindOf 41 = .ok (.areturn, 1) := dk_176 (dk_at dksX1_kindOf_1 17 rfl rfl)
abbrev cX1_mustBeIn : ByteArray := prog_1_method_10_code
def yX1_mustBeIn : MethodName := ⟨RX1, "mustBeIn", "(III)V"⟩
def dkwX1_mustBeIn_0 : List UInt8 := [26, 27, 161, 0, 12, 26, 28, 163, 0, 7, 4, 167, 0, 4, 3, 184, 0, 147, 177]
abbrev dktX1_mustBeIn_0 : List UInt8 := dkwX1_mustBeIn_0 ++ []
theorem dksX1_mustBeIn_0 : cX1_mustBeIn.data.toList.drop 0 = dktX1_mustBeIn_0 := by decide +kernel
theorem dX1_mustBeIn_0 : decode cX1_mustBeIn 0 = .ok (.iload_n 0, 1) := dk_26 (dk_at dksX1_mustBeIn_0 0 rfl rfl)
theorem dX1_mustBeIn_1 : decode cX1_mustBeIn 1 = .ok (.iload_n 1, 1) := dk_27 (dk_at dksX1_mustBeIn_0 1 rfl rfl)
theorem dX1_mustBeIn_2 : decode cX1_mustBeIn 2 = .ok (.if_icmp .lt 12, 3) := dk_161 0 12 (dk_at dksX1_mustBeIn_0 2 rfl rfl)
theorem dX1_mustBeIn_5 : decode cX1_mustBeIn 5 = .ok (.iload_n 0, 1) := dk_26 (dk_at dksX1_mustBeIn_0 5 rfl rfl)
theorem dX1_mustBeIn_6 : decode cX1_mustBeIn 6 = .ok (.iload_n 2, 1) := dk_28 (dk_at dksX1_mustBeIn_0 6 rfl rfl)
theorem dX1_mustBeIn_7 : decode cX1_mustBeIn 7 = .ok (.if_icmp .gt 7, 3) := dk_163 0 7 (dk_at dksX1_mustBeIn_0 7 rfl rfl)
theorem dX1_mustBeIn_10 : decode cX1_mustBeIn 10 = .ok (.iconst 1, 1) := dk_4 (dk_at dksX1_mustBeIn_0 10 rfl rfl)
theorem dX1_mustBeIn_11 : decode cX1_mustBeIn 11 = .ok (.goto 4, 3) := dk_167 0 4 (dk_at dksX1_mustBeIn_0 11 rfl rfl)
theorem dX1_mustBeIn_14 : decode cX1_mustBeIn 14 = .ok (.iconst 0, 1) := dk_3 (dk_at dksX1_mustBeIn_0 14 rfl rfl)
theorem dX1_mustBeIn_15 : decode cX1_mustBeIn 15 = .ok (.invokestatic 147, 3) := dk_184 0 147 (dk_at dksX1_mustBeIn_0 15 rfl rfl)
theorem dX1_mustBeIn_18 : decode cX1_mustBeIn 18 = .ok (.return_, 1) := dk_177 (dk_at dksX1_mustBeIn_0 18 rfl rfl)
abbrev cX1_must : ByteArray := prog_1_method_9_code
def yX1_must : MethodName := ⟨RX1, "must", "(Z)V"⟩
def dkwX1_must_0 : List UInt8 := [26, 154, 0, 11, 187, 0, 144, 89, 183, 0, 146, 191, 177]
abbrev dktX1_must_0 : List UInt8 := dkwX1_must_0 ++ []
theorem dksX1_must_0 : cX1_must.data.toList.drop 0 = dktX1_must_0 := by decide +kernel
theorem dX1_must_0 : decode cX1_must 0 = .ok (.iload_n 0, 1) := dk_26 (dk_at dksX1_must_0 0 rfl rfl)
theorem dX1_must_1 : decode cX1_must 1 = .ok (.ifCond .ne 11, 3) := dk_154 0 11 (dk_at dksX1_must_0 1 rfl rfl)
theorem dX1_must_4 : decode cX1_must 4 = .ok (.new 144, 3) := dk_187 0 144 (dk_at dksX1_must_0 4 rfl rfl)
theorem dX1_must_7 : decode cX1_must 7 = .ok (.dup, 1) := dk_89 (dk_at dksX1_must_0 7 rfl rfl)
theorem dX1_must_8 : decode cX1_must 8 = .ok (.invokespecial 146, 3) := dk_183 0 146 (dk_at dksX1_must_0 8 rfl rfl)
theorem dX1_must_11 : decode cX1_must 11 = .ok (.athrow, 1) := dk_191 (dk_at dksX1_must_0 11 rfl rfl)
theorem dX1_must_12 : decode cX1_must 12 = .ok (.return_, 1) := dk_177 (dk_at dksX1_must_0 12 rfl rfl)
abbrev cX1_decidedBy : ByteArray := prog_1_method_45_code
def yX1_decidedBy : MethodName := ⟨RX1, "decidedBy", "(LHaltingale$Kind;)I"⟩
def dkwX1_decidedBy_3 : List UInt8 := [172]
abbrev dktX1_decidedBy_3 : List UInt8 := dkwX1_decidedBy_3 ++ []
def dkwX1_decidedBy_2 : List UInt8 := [185, 0, 60, 2, 0, 192, 0, 160, 182, 0, 191, 167, 0, 4, 3, 96, 61, 132, 3, 1, 167, 255, 197, 28]
abbrev dktX1_decidedBy_2 : List UInt8 := dkwX1_decidedBy_2 ++ dktX1_decidedBy_3
def dkwX1_decidedBy_1 : List UInt8 := [185, 0, 60, 2, 0, 192, 0, 160, 43, 182, 1, 34, 153, 0, 22, 42, 180, 0, 130, 29]
abbrev dktX1_decidedBy_1 : List UInt8 := dkwX1_decidedBy_1 ++ dktX1_decidedBy_2
def dkwX1_decidedBy_0 : List UInt8 := [3, 61, 3, 62, 29, 42, 180, 0, 130, 185, 0, 56, 1, 0, 162, 0, 52, 28, 42, 180, 0, 130, 29]
abbrev dktX1_decidedBy_0 : List UInt8 := dkwX1_decidedBy_0 ++ dktX1_decidedBy_1
theorem dksX1_decidedBy_0 : cX1_decidedBy.data.toList.drop 0 = dktX1_decidedBy_0 := by decide +kernel
theorem dksX1_decidedBy_1 : cX1_decidedBy.data.toList.drop 23 = dktX1_decidedBy_1 := dk_seg dksX1_decidedBy_0 23 rfl rfl
theorem dksX1_decidedBy_2 : cX1_decidedBy.data.toList.drop 43 = dktX1_decidedBy_2 := dk_seg dksX1_decidedBy_1 20 rfl rfl
theorem dksX1_decidedBy_3 : cX1_decidedBy.data.toList.drop 67 = dktX1_decidedBy_3 := dk_seg dksX1_decidedBy_2 24 rfl rfl
theorem dX1_decidedBy_0 : decode cX1_decidedBy 0 = .ok (.iconst 0, 1) := dk_3 (dk_at dksX1_decidedBy_0 0 rfl rfl)
theorem dX1_decidedBy_1 : decode cX1_decidedBy 1 = .ok (.istore_n 2, 1) := dk_61 (dk_at dksX1_decidedBy_0 1 rfl rfl)
theorem dX1_decidedBy_2 : decode cX1_decidedBy 2 = .ok (.iconst 0, 1) := dk_3 (dk_at dksX1_decidedBy_0 2 rfl rfl)
theorem dX1_decidedBy_3 : decode cX1_decidedBy 3 = .ok (.istore_n 3, 1) := dk_62 (dk_at dksX1_decidedBy_0 3 rfl rfl)
theorem dX1_decidedBy_4 : decode cX1_decidedBy 4 = .ok (.iload_n 3, 1) := dk_29 (dk_at dksX1_decidedBy_0 4 rfl rfl)
theorem dX1_decidedBy_5 : decode cX1_decidedBy 5 = .ok (.aload_n 0, 1) := dk_42 (dk_at dksX1_decidedBy_0 5 rfl rfl)
theorem dX1_decidedBy_6 : decode cX1_decidedBy 6 = .ok (.getfield 130, 3) := dk_180 0 130 (dk_at dksX1_decidedBy_0 6 rfl rfl)
theorem dX1_decidedBy_9 : decode cX1_decidedBy 9 = .ok (.invokeinterface 56 1, 5) := by decide +kernel
theorem dX1_decidedBy_14 : decode cX1_decidedBy 14 = .ok (.if_icmp .ge 52, 3) := dk_162 0 52 (dk_at dksX1_decidedBy_0 14 rfl rfl)
theorem dX1_decidedBy_17 : decode cX1_decidedBy 17 = .ok (.iload_n 2, 1) := dk_28 (dk_at dksX1_decidedBy_0 17 rfl rfl)
theorem dX1_decidedBy_18 : decode cX1_decidedBy 18 = .ok (.aload_n 0, 1) := dk_42 (dk_at dksX1_decidedBy_0 18 rfl rfl)
theorem dX1_decidedBy_19 : decode cX1_decidedBy 19 = .ok (.getfield 130, 3) := dk_180 0 130 (dk_at dksX1_decidedBy_0 19 rfl rfl)
theorem dX1_decidedBy_22 : decode cX1_decidedBy 22 = .ok (.iload_n 3, 1) := dk_29 (dk_at dksX1_decidedBy_0 22 rfl rfl)
theorem dX1_decidedBy_23 : decode cX1_decidedBy 23 = .ok (.invokeinterface 60 2, 5) := by decide +kernel
theorem dX1_decidedBy_28 : decode cX1_decidedBy 28 = .ok (.checkcast 160, 3) := dk_192 0 160 (dk_at dksX1_decidedBy_1 5 rfl rfl)
theorem dX1_decidedBy_31 : decode cX1_decidedBy 31 = .ok (.aload_n 1, 1) := dk_43 (dk_at dksX1_decidedBy_1 8 rfl rfl)
theorem dX1_decidedBy_32 : decode cX1_decidedBy 32 = .ok (.invokevirtual 290, 3) := dk_182 1 34 (dk_at dksX1_decidedBy_1 9 rfl rfl)
theorem dX1_decidedBy_35 : decode cX1_decidedBy 35 = .ok (.ifCond .eq 22, 3) := dk_153 0 22 (dk_at dksX1_decidedBy_1 12 rfl rfl)
theorem dX1_decidedBy_38 : decode cX1_decidedBy 38 = .ok (.aload_n 0, 1) := dk_42 (dk_at dksX1_decidedBy_1 15 rfl rfl)
theorem dX1_decidedBy_39 : decode cX1_decidedBy 39 = .ok (.getfield 130, 3) := dk_180 0 130 (dk_at dksX1_decidedBy_1 16 rfl rfl)
theorem dX1_decidedBy_42 : decode cX1_decidedBy 42 = .ok (.iload_n 3, 1) := dk_29 (dk_at dksX1_decidedBy_1 19 rfl rfl)
theorem dX1_decidedBy_43 : decode cX1_decidedBy 43 = .ok (.invokeinterface 60 2, 5) := by decide +kernel
theorem dX1_decidedBy_48 : decode cX1_decidedBy 48 = .ok (.checkcast 160, 3) := dk_192 0 160 (dk_at dksX1_decidedBy_2 5 rfl rfl)
theorem dX1_decidedBy_51 : decode cX1_decidedBy 51 = .ok (.invokevirtual 191, 3) := dk_182 0 191 (dk_at dksX1_decidedBy_2 8 rfl rfl)
theorem dX1_decidedBy_54 : decode cX1_decidedBy 54 = .ok (.goto 4, 3) := dk_167 0 4 (dk_at dksX1_decidedBy_2 11 rfl rfl)
theorem dX1_decidedBy_57 : decode cX1_decidedBy 57 = .ok (.iconst 0, 1) := dk_3 (dk_at dksX1_decidedBy_2 14 rfl rfl)
theorem dX1_decidedBy_58 : decode cX1_decidedBy 58 = .ok (.iadd, 1) := dk_96 (dk_at dksX1_decidedBy_2 15 rfl rfl)
theorem dX1_decidedBy_59 : decode cX1_decidedBy 59 = .ok (.istore_n 2, 1) := dk_61 (dk_at dksX1_decidedBy_2 16 rfl rfl)
theorem dX1_decidedBy_60 : decode cX1_decidedBy 60 = .ok (.iinc 3 1, 3) := dk_132 3 1 (dk_at dksX1_decidedBy_2 17 rfl rfl)
theorem dX1_decidedBy_63 : decode cX1_decidedBy 63 = .ok (.goto (-59), 3) := dk_167 255 197 (dk_at dksX1_decidedBy_2 20 rfl rfl)
theorem dX1_decidedBy_66 : decode cX1_decidedBy 66 = .ok (.iload_n 2, 1) := dk_28 (dk_at dksX1_decidedBy_2 23 rfl rfl)
theorem dX1_decidedBy_67 : decode cX1_decidedBy 67 = .ok (.ireturn, 1) := dk_172 (dk_at dksX1_decidedBy_3 0 rfl rfl)
abbrev cX1_mixMachine : ByteArray := prog_1_method_54_code
def yX1_mixMachine : MethodName := ⟨RX1, "mixMachine", "(LHaltingale$Sum;LHaltingale$Machine;)V"⟩
def dkwX1_mixMachine_6 : List UInt8 := [180, 0, 166, 184, 1, 42, 182, 1, 154, 88, 177]
abbrev dktX1_mixMachine_6 : List UInt8 := dkwX1_mixMachine_6 ++ []
def dkwX1_mixMachine_5 : List UInt8 := [88, 132, 4, 1, 167, 255, 235, 42, 43, 180, 0, 166, 16, 8, 184, 1, 38, 182, 1, 154, 88, 42, 43]
abbrev dktX1_mixMachine_5 : List UInt8 := dkwX1_mixMachine_5 ++ dktX1_mixMachine_6
def dkwX1_mixMachine_4 : List UInt8 := [184, 0, 222, 78, 3, 54, 4, 21, 4, 16, 7, 163, 0, 20, 42, 45, 21, 4, 184, 1, 105, 182, 1, 154]
abbrev dktX1_mixMachine_4 : List UInt8 := dkwX1_mixMachine_4 ++ dktX1_mixMachine_5
def dkwX1_mixMachine_3 : List UInt8 := [21, 4, 184, 1, 68, 182, 1, 154, 88, 132, 4, 1, 167, 255, 227, 132, 3, 1, 167, 255, 205, 43, 16, 40]
abbrev dktX1_mixMachine_3 : List UInt8 := dkwX1_mixMachine_3 ++ dktX1_mixMachine_4
def dkwX1_mixMachine_2 : List UInt8 := [162, 0, 44, 3, 54, 4, 21, 4, 5, 163, 0, 29, 42, 43, 180, 0, 166, 29, 5, 108, 29, 5, 112]
abbrev dktX1_mixMachine_2 : List UInt8 := dkwX1_mixMachine_2 ++ dktX1_mixMachine_3
def dkwX1_mixMachine_1 : List UInt8 := [182, 1, 154, 88, 132, 3, 1, 167, 255, 236, 3, 62, 29, 5, 43, 180, 0, 166, 180, 0, 73, 104]
abbrev dktX1_mixMachine_1 : List UInt8 := dkwX1_mixMachine_1 ++ dktX1_mixMachine_2
def dkwX1_mixMachine_0 : List UInt8 := [43, 17, 1, 244, 184, 0, 222, 77, 3, 62, 29, 16, 8, 163, 0, 20, 42, 43, 44, 29, 184, 1, 88]
abbrev dktX1_mixMachine_0 : List UInt8 := dkwX1_mixMachine_0 ++ dktX1_mixMachine_1
theorem dksX1_mixMachine_0 : cX1_mixMachine.data.toList.drop 0 = dktX1_mixMachine_0 := by decide +kernel
theorem dksX1_mixMachine_1 : cX1_mixMachine.data.toList.drop 23 = dktX1_mixMachine_1 := dk_seg dksX1_mixMachine_0 23 rfl rfl
theorem dksX1_mixMachine_2 : cX1_mixMachine.data.toList.drop 45 = dktX1_mixMachine_2 := dk_seg dksX1_mixMachine_1 22 rfl rfl
theorem dksX1_mixMachine_3 : cX1_mixMachine.data.toList.drop 68 = dktX1_mixMachine_3 := dk_seg dksX1_mixMachine_2 23 rfl rfl
theorem dksX1_mixMachine_4 : cX1_mixMachine.data.toList.drop 92 = dktX1_mixMachine_4 := dk_seg dksX1_mixMachine_3 24 rfl rfl
theorem dksX1_mixMachine_5 : cX1_mixMachine.data.toList.drop 116 = dktX1_mixMachine_5 := dk_seg dksX1_mixMachine_4 24 rfl rfl
theorem dksX1_mixMachine_6 : cX1_mixMachine.data.toList.drop 139 = dktX1_mixMachine_6 := dk_seg dksX1_mixMachine_5 23 rfl rfl
theorem dX1_mixMachine_0 : decode cX1_mixMachine 0 = .ok (.aload_n 1, 1) := dk_43 (dk_at dksX1_mixMachine_0 0 rfl rfl)
theorem dX1_mixMachine_1 : decode cX1_mixMachine 1 = .ok (.sipush 500, 3) := dk_17 1 244 (dk_at dksX1_mixMachine_0 1 rfl rfl)
theorem dX1_mixMachine_4 : decode cX1_mixMachine 4 = .ok (.invokestatic 222, 3) := dk_184 0 222 (dk_at dksX1_mixMachine_0 4 rfl rfl)
theorem dX1_mixMachine_7 : decode cX1_mixMachine 7 = .ok (.astore_n 2, 1) := dk_77 (dk_at dksX1_mixMachine_0 7 rfl rfl)
theorem dX1_mixMachine_8 : decode cX1_mixMachine 8 = .ok (.iconst 0, 1) := dk_3 (dk_at dksX1_mixMachine_0 8 rfl rfl)
theorem dX1_mixMachine_9 : decode cX1_mixMachine 9 = .ok (.istore_n 3, 1) := dk_62 (dk_at dksX1_mixMachine_0 9 rfl rfl)
theorem dX1_mixMachine_10 : decode cX1_mixMachine 10 = .ok (.iload_n 3, 1) := dk_29 (dk_at dksX1_mixMachine_0 10 rfl rfl)
theorem dX1_mixMachine_11 : decode cX1_mixMachine 11 = .ok (.bipush 8, 2) := dk_16 8 (dk_at dksX1_mixMachine_0 11 rfl rfl)
theorem dX1_mixMachine_13 : decode cX1_mixMachine 13 = .ok (.if_icmp .gt 20, 3) := dk_163 0 20 (dk_at dksX1_mixMachine_0 13 rfl rfl)
theorem dX1_mixMachine_16 : decode cX1_mixMachine 16 = .ok (.aload_n 0, 1) := dk_42 (dk_at dksX1_mixMachine_0 16 rfl rfl)
theorem dX1_mixMachine_17 : decode cX1_mixMachine 17 = .ok (.aload_n 1, 1) := dk_43 (dk_at dksX1_mixMachine_0 17 rfl rfl)
theorem dX1_mixMachine_18 : decode cX1_mixMachine 18 = .ok (.aload_n 2, 1) := dk_44 (dk_at dksX1_mixMachine_0 18 rfl rfl)
theorem dX1_mixMachine_19 : decode cX1_mixMachine 19 = .ok (.iload_n 3, 1) := dk_29 (dk_at dksX1_mixMachine_0 19 rfl rfl)
theorem dX1_mixMachine_20 : decode cX1_mixMachine 20 = .ok (.invokestatic 344, 3) := dk_184 1 88 (dk_at dksX1_mixMachine_0 20 rfl rfl)
theorem dX1_mixMachine_23 : decode cX1_mixMachine 23 = .ok (.invokevirtual 410, 3) := dk_182 1 154 (dk_at dksX1_mixMachine_1 0 rfl rfl)
theorem dX1_mixMachine_26 : decode cX1_mixMachine 26 = .ok (.pop2, 1) := dk_88 (dk_at dksX1_mixMachine_1 3 rfl rfl)
theorem dX1_mixMachine_27 : decode cX1_mixMachine 27 = .ok (.iinc 3 1, 3) := dk_132 3 1 (dk_at dksX1_mixMachine_1 4 rfl rfl)
theorem dX1_mixMachine_30 : decode cX1_mixMachine 30 = .ok (.goto (-20), 3) := dk_167 255 236 (dk_at dksX1_mixMachine_1 7 rfl rfl)
theorem dX1_mixMachine_33 : decode cX1_mixMachine 33 = .ok (.iconst 0, 1) := dk_3 (dk_at dksX1_mixMachine_1 10 rfl rfl)
theorem dX1_mixMachine_34 : decode cX1_mixMachine 34 = .ok (.istore_n 3, 1) := dk_62 (dk_at dksX1_mixMachine_1 11 rfl rfl)
theorem dX1_mixMachine_35 : decode cX1_mixMachine 35 = .ok (.iload_n 3, 1) := dk_29 (dk_at dksX1_mixMachine_1 12 rfl rfl)
theorem dX1_mixMachine_36 : decode cX1_mixMachine 36 = .ok (.iconst 2, 1) := dk_5 (dk_at dksX1_mixMachine_1 13 rfl rfl)
theorem dX1_mixMachine_37 : decode cX1_mixMachine 37 = .ok (.aload_n 1, 1) := dk_43 (dk_at dksX1_mixMachine_1 14 rfl rfl)
theorem dX1_mixMachine_38 : decode cX1_mixMachine 38 = .ok (.getfield 166, 3) := dk_180 0 166 (dk_at dksX1_mixMachine_1 15 rfl rfl)
theorem dX1_mixMachine_41 : decode cX1_mixMachine 41 = .ok (.getfield 73, 3) := dk_180 0 73 (dk_at dksX1_mixMachine_1 18 rfl rfl)
theorem dX1_mixMachine_44 : decode cX1_mixMachine 44 = .ok (.imul, 1) := dk_104 (dk_at dksX1_mixMachine_1 21 rfl rfl)
theorem dX1_mixMachine_45 : decode cX1_mixMachine 45 = .ok (.if_icmp .ge 44, 3) := dk_162 0 44 (dk_at dksX1_mixMachine_2 0 rfl rfl)
theorem dX1_mixMachine_48 : decode cX1_mixMachine 48 = .ok (.iconst 0, 1) := dk_3 (dk_at dksX1_mixMachine_2 3 rfl rfl)
theorem dX1_mixMachine_49 : decode cX1_mixMachine 49 = .ok (.istore 4, 2) := dk_54 4 (dk_at dksX1_mixMachine_2 4 rfl rfl)
theorem dX1_mixMachine_51 : decode cX1_mixMachine 51 = .ok (.iload 4, 2) := dk_21 4 (dk_at dksX1_mixMachine_2 6 rfl rfl)
theorem dX1_mixMachine_53 : decode cX1_mixMachine 53 = .ok (.iconst 2, 1) := dk_5 (dk_at dksX1_mixMachine_2 8 rfl rfl)
theorem dX1_mixMachine_54 : decode cX1_mixMachine 54 = .ok (.if_icmp .gt 29, 3) := dk_163 0 29 (dk_at dksX1_mixMachine_2 9 rfl rfl)
theorem dX1_mixMachine_57 : decode cX1_mixMachine 57 = .ok (.aload_n 0, 1) := dk_42 (dk_at dksX1_mixMachine_2 12 rfl rfl)
theorem dX1_mixMachine_58 : decode cX1_mixMachine 58 = .ok (.aload_n 1, 1) := dk_43 (dk_at dksX1_mixMachine_2 13 rfl rfl)
theorem dX1_mixMachine_59 : decode cX1_mixMachine 59 = .ok (.getfield 166, 3) := dk_180 0 166 (dk_at dksX1_mixMachine_2 14 rfl rfl)
theorem dX1_mixMachine_62 : decode cX1_mixMachine 62 = .ok (.iload_n 3, 1) := dk_29 (dk_at dksX1_mixMachine_2 17 rfl rfl)
theorem dX1_mixMachine_63 : decode cX1_mixMachine 63 = .ok (.iconst 2, 1) := dk_5 (dk_at dksX1_mixMachine_2 18 rfl rfl)
theorem dX1_mixMachine_64 : decode cX1_mixMachine 64 = .ok (.idiv, 1) := dk_108 (dk_at dksX1_mixMachine_2 19 rfl rfl)
theorem dX1_mixMachine_65 : decode cX1_mixMachine 65 = .ok (.iload_n 3, 1) := dk_29 (dk_at dksX1_mixMachine_2 20 rfl rfl)
theorem dX1_mixMachine_66 : decode cX1_mixMachine 66 = .ok (.iconst 2, 1) := dk_5 (dk_at dksX1_mixMachine_2 21 rfl rfl)
theorem dX1_mixMachine_67 : decode cX1_mixMachine 67 = .ok (.irem, 1) := dk_112 (dk_at dksX1_mixMachine_2 22 rfl rfl)
theorem dX1_mixMachine_68 : decode cX1_mixMachine 68 = .ok (.iload 4, 2) := dk_21 4 (dk_at dksX1_mixMachine_3 0 rfl rfl)
theorem dX1_mixMachine_70 : decode cX1_mixMachine 70 = .ok (.invokestatic 324, 3) := dk_184 1 68 (dk_at dksX1_mixMachine_3 2 rfl rfl)
theorem dX1_mixMachine_73 : decode cX1_mixMachine 73 = .ok (.invokevirtual 410, 3) := dk_182 1 154 (dk_at dksX1_mixMachine_3 5 rfl rfl)
theorem dX1_mixMachine_76 : decode cX1_mixMachine 76 = .ok (.pop2, 1) := dk_88 (dk_at dksX1_mixMachine_3 8 rfl rfl)
theorem dX1_mixMachine_77 : decode cX1_mixMachine 77 = .ok (.iinc 4 1, 3) := dk_132 4 1 (dk_at dksX1_mixMachine_3 9 rfl rfl)
theorem dX1_mixMachine_80 : decode cX1_mixMachine 80 = .ok (.goto (-29), 3) := dk_167 255 227 (dk_at dksX1_mixMachine_3 12 rfl rfl)
theorem dX1_mixMachine_83 : decode cX1_mixMachine 83 = .ok (.iinc 3 1, 3) := dk_132 3 1 (dk_at dksX1_mixMachine_3 15 rfl rfl)
theorem dX1_mixMachine_86 : decode cX1_mixMachine 86 = .ok (.goto (-51), 3) := dk_167 255 205 (dk_at dksX1_mixMachine_3 18 rfl rfl)
theorem dX1_mixMachine_89 : decode cX1_mixMachine 89 = .ok (.aload_n 1, 1) := dk_43 (dk_at dksX1_mixMachine_3 21 rfl rfl)
theorem dX1_mixMachine_90 : decode cX1_mixMachine 90 = .ok (.bipush 40, 2) := dk_16 40 (dk_at dksX1_mixMachine_3 22 rfl rfl)
theorem dX1_mixMachine_92 : decode cX1_mixMachine 92 = .ok (.invokestatic 222, 3) := dk_184 0 222 (dk_at dksX1_mixMachine_4 0 rfl rfl)
theorem dX1_mixMachine_95 : decode cX1_mixMachine 95 = .ok (.astore_n 3, 1) := dk_78 (dk_at dksX1_mixMachine_4 3 rfl rfl)
theorem dX1_mixMachine_96 : decode cX1_mixMachine 96 = .ok (.iconst 0, 1) := dk_3 (dk_at dksX1_mixMachine_4 4 rfl rfl)
theorem dX1_mixMachine_97 : decode cX1_mixMachine 97 = .ok (.istore 4, 2) := dk_54 4 (dk_at dksX1_mixMachine_4 5 rfl rfl)
theorem dX1_mixMachine_99 : decode cX1_mixMachine 99 = .ok (.iload 4, 2) := dk_21 4 (dk_at dksX1_mixMachine_4 7 rfl rfl)
theorem dX1_mixMachine_101 : decode cX1_mixMachine 101 = .ok (.bipush 7, 2) := dk_16 7 (dk_at dksX1_mixMachine_4 9 rfl rfl)
theorem dX1_mixMachine_103 : decode cX1_mixMachine 103 = .ok (.if_icmp .gt 20, 3) := dk_163 0 20 (dk_at dksX1_mixMachine_4 11 rfl rfl)
theorem dX1_mixMachine_106 : decode cX1_mixMachine 106 = .ok (.aload_n 0, 1) := dk_42 (dk_at dksX1_mixMachine_4 14 rfl rfl)
theorem dX1_mixMachine_107 : decode cX1_mixMachine 107 = .ok (.aload_n 3, 1) := dk_45 (dk_at dksX1_mixMachine_4 15 rfl rfl)
theorem dX1_mixMachine_108 : decode cX1_mixMachine 108 = .ok (.iload 4, 2) := dk_21 4 (dk_at dksX1_mixMachine_4 16 rfl rfl)
theorem dX1_mixMachine_110 : decode cX1_mixMachine 110 = .ok (.invokestatic 361, 3) := dk_184 1 105 (dk_at dksX1_mixMachine_4 18 rfl rfl)
theorem dX1_mixMachine_113 : decode cX1_mixMachine 113 = .ok (.invokevirtual 410, 3) := dk_182 1 154 (dk_at dksX1_mixMachine_4 21 rfl rfl)
theorem dX1_mixMachine_116 : decode cX1_mixMachine 116 = .ok (.pop2, 1) := dk_88 (dk_at dksX1_mixMachine_5 0 rfl rfl)
theorem dX1_mixMachine_117 : decode cX1_mixMachine 117 = .ok (.iinc 4 1, 3) := dk_132 4 1 (dk_at dksX1_mixMachine_5 1 rfl rfl)
theorem dX1_mixMachine_120 : decode cX1_mixMachine 120 = .ok (.goto (-21), 3) := dk_167 255 235 (dk_at dksX1_mixMachine_5 4 rfl rfl)
theorem dX1_mixMachine_123 : decode cX1_mixMachine 123 = .ok (.aload_n 0, 1) := dk_42 (dk_at dksX1_mixMachine_5 7 rfl rfl)
theorem dX1_mixMachine_124 : decode cX1_mixMachine 124 = .ok (.aload_n 1, 1) := dk_43 (dk_at dksX1_mixMachine_5 8 rfl rfl)
theorem dX1_mixMachine_125 : decode cX1_mixMachine 125 = .ok (.getfield 166, 3) := dk_180 0 166 (dk_at dksX1_mixMachine_5 9 rfl rfl)
theorem dX1_mixMachine_128 : decode cX1_mixMachine 128 = .ok (.bipush 8, 2) := dk_16 8 (dk_at dksX1_mixMachine_5 12 rfl rfl)
theorem dX1_mixMachine_130 : decode cX1_mixMachine 130 = .ok (.invokestatic 294, 3) := dk_184 1 38 (dk_at dksX1_mixMachine_5 14 rfl rfl)
theorem dX1_mixMachine_133 : decode cX1_mixMachine 133 = .ok (.invokevirtual 410, 3) := dk_182 1 154 (dk_at dksX1_mixMachine_5 17 rfl rfl)
theorem dX1_mixMachine_136 : decode cX1_mixMachine 136 = .ok (.pop2, 1) := dk_88 (dk_at dksX1_mixMachine_5 20 rfl rfl)
theorem dX1_mixMachine_137 : decode cX1_mixMachine 137 = .ok (.aload_n 0, 1) := dk_42 (dk_at dksX1_mixMachine_5 21 rfl rfl)
theorem dX1_mixMachine_138 : decode cX1_mixMachine 138 = .ok (.aload_n 1, 1) := dk_43 (dk_at dksX1_mixMachine_5 22 rfl rfl)
theorem dX1_mixMachine_139 : decode cX1_mixMachine 139 = .ok (.getfield 166, 3) := dk_180 0 166 (dk_at dksX1_mixMachine_6 0 rfl rfl)
theorem dX1_mixMachine_142 : decode cX1_mixMachine 142 = .ok (.invokestatic 298, 3) := dk_184 1 42 (dk_at dksX1_mixMachine_6 3 rfl rfl)
theorem dX1_mixMachine_145 : decode cX1_mixMachine 145 = .ok (.invokevirtual 410, 3) := dk_182 1 154 (dk_at dksX1_mixMachine_6 6 rfl rfl)
theorem dX1_mixMachine_148 : decode cX1_mixMachine 148 = .ok (.pop2, 1) := dk_88 (dk_at dksX1_mixMachine_6 9 rfl rfl)
theorem dX1_mixMachine_149 : decode cX1_mixMachine 149 = .ok (.return_, 1) := dk_177 (dk_at dksX1_mixMachine_6 10 rfl rfl)
abbrev cX1_walked : ByteArray := prog_1_method_20_code
def yX1_walked : MethodName := ⟨RX1, "walked", "(LHaltingale$Machine;I)LHaltingale$Walker;"⟩
def dkwX1_walked_0 : List UInt8 := [187, 0, 3, 89, 42, 180, 0, 166, 27, 183, 0, 5, 27, 182, 0, 9, 176]
abbrev dktX1_walked_0 : List UInt8 := dkwX1_walked_0 ++ []
theorem dksX1_walked_0 : cX1_walked.data.toList.drop 0 = dktX1_walked_0 := by decide +kernel
theorem dX1_walked_0 : decode cX1_walked 0 = .ok (.new 3, 3) := dk_187 0 3 (dk_at dksX1_walked_0 0 rfl rfl)
theorem dX1_walked_3 : decode cX1_walked 3 = .ok (.dup, 1) := dk_89 (dk_at dksX1_walked_0 3 rfl rfl)
theorem dX1_walked_4 : decode cX1_walked 4 = .ok (.aload_n 0, 1) := dk_42 (dk_at dksX1_walked_0 4 rfl rfl)
theorem dX1_walked_5 : decode cX1_walked 5 = .ok (.getfield 166, 3) := dk_180 0 166 (dk_at dksX1_walked_0 5 rfl rfl)
theorem dX1_walked_8 : decode cX1_walked 8 = .ok (.iload_n 1, 1) := dk_27 (dk_at dksX1_walked_0 8 rfl rfl)
theorem dX1_walked_9 : decode cX1_walked 9 = .ok (.invokespecial 5, 3) := dk_183 0 5 (dk_at dksX1_walked_0 9 rfl rfl)
theorem dX1_walked_12 : decode cX1_walked 12 = .ok (.iload_n 1, 1) := dk_27 (dk_at dksX1_walked_0 12 rfl rfl)
theorem dX1_walked_13 : decode cX1_walked 13 = .ok (.invokevirtual 9, 3) := dk_182 0 9 (dk_at dksX1_walked_0 13 rfl rfl)
theorem dX1_walked_16 : decode cX1_walked 16 = .ok (.areturn, 1) := dk_176 (dk_at dksX1_walked_0 16 rfl rfl)
abbrev cX1_machineNow : ByteArray := prog_1_method_32_code
def yX1_machineNow : MethodName := ⟨RX1, "machineNow", "(LHaltingale$Machine;LHaltingale$Walker;I)I"⟩
def dkwX1_machineNow_4 : List UInt8 := [180, 1, 81, 172, 43, 184, 0, 226, 172, 43, 28, 184, 1, 84, 172]
abbrev dktX1_machineNow_4 : List UInt8 := dkwX1_machineNow_4 ++ []
def dkwX1_machineNow_3 : List UInt8 := [180, 1, 52, 182, 0, 104, 192, 0, 255, 182, 1, 56, 167, 0, 4, 2, 172, 42, 180, 1, 78, 172, 42]
abbrev dktX1_machineNow_3 : List UInt8 := dkwX1_machineNow_3 ++ dktX1_machineNow_4
def dkwX1_machineNow_2 : List UInt8 := [42, 180, 0, 166, 180, 0, 73, 172, 42, 180, 0, 166, 182, 0, 213, 172, 42, 182, 1, 20, 153, 0, 19, 42]
abbrev dktX1_machineNow_2 : List UInt8 := dkwX1_machineNow_2 ++ dktX1_machineNow_3
def dkwX1_machineNow_1 : List UInt8 := [170, 0, 0, 0, 0, 0, 95, 0, 0, 0, 0, 0, 0, 0, 5, 0, 0, 0, 39, 0, 0, 0, 47, 0, 0, 0, 55, 0, 0, 0, 80, 0, 0, 0, 85, 0, 0, 0, 90]
abbrev dktX1_machineNow_1 : List UInt8 := dkwX1_machineNow_1 ++ dktX1_machineNow_2
def dkwX1_machineNow_0 : List UInt8 := [28]
abbrev dktX1_machineNow_0 : List UInt8 := dkwX1_machineNow_0 ++ dktX1_machineNow_1
theorem dksX1_machineNow_0 : cX1_machineNow.data.toList.drop 0 = dktX1_machineNow_0 := by decide +kernel
theorem dksX1_machineNow_1 : cX1_machineNow.data.toList.drop 1 = dktX1_machineNow_1 := dk_seg dksX1_machineNow_0 1 rfl rfl
theorem dksX1_machineNow_2 : cX1_machineNow.data.toList.drop 40 = dktX1_machineNow_2 := dk_seg dksX1_machineNow_1 39 rfl rfl
theorem dksX1_machineNow_3 : cX1_machineNow.data.toList.drop 64 = dktX1_machineNow_3 := dk_seg dksX1_machineNow_2 24 rfl rfl
theorem dksX1_machineNow_4 : cX1_machineNow.data.toList.drop 87 = dktX1_machineNow_4 := dk_seg dksX1_machineNow_3 23 rfl rfl
theorem dX1_machineNow_0 : decode cX1_machineNow 0 = .ok (.iload_n 2, 1) := dk_28 (dk_at dksX1_machineNow_0 0 rfl rfl)
theorem dX1_machineNow_1 : decode cX1_machineNow 1 = .ok (.tableswitch 95 0 5 #[39, 47, 55, 80, 85, 90], 39) := by decide +kernel
theorem dX1_machineNow_40 : decode cX1_machineNow 40 = .ok (.aload_n 0, 1) := dk_42 (dk_at dksX1_machineNow_2 0 rfl rfl)
theorem dX1_machineNow_41 : decode cX1_machineNow 41 = .ok (.getfield 166, 3) := dk_180 0 166 (dk_at dksX1_machineNow_2 1 rfl rfl)
theorem dX1_machineNow_44 : decode cX1_machineNow 44 = .ok (.getfield 73, 3) := dk_180 0 73 (dk_at dksX1_machineNow_2 4 rfl rfl)
theorem dX1_machineNow_47 : decode cX1_machineNow 47 = .ok (.ireturn, 1) := dk_172 (dk_at dksX1_machineNow_2 7 rfl rfl)
theorem dX1_machineNow_48 : decode cX1_machineNow 48 = .ok (.aload_n 0, 1) := dk_42 (dk_at dksX1_machineNow_2 8 rfl rfl)
theorem dX1_machineNow_49 : decode cX1_machineNow 49 = .ok (.getfield 166, 3) := dk_180 0 166 (dk_at dksX1_machineNow_2 9 rfl rfl)
theorem dX1_machineNow_52 : decode cX1_machineNow 52 = .ok (.invokevirtual 213, 3) := dk_182 0 213 (dk_at dksX1_machineNow_2 12 rfl rfl)
theorem dX1_machineNow_55 : decode cX1_machineNow 55 = .ok (.ireturn, 1) := dk_172 (dk_at dksX1_machineNow_2 15 rfl rfl)
theorem dX1_machineNow_56 : decode cX1_machineNow 56 = .ok (.aload_n 0, 1) := dk_42 (dk_at dksX1_machineNow_2 16 rfl rfl)
theorem dX1_machineNow_57 : decode cX1_machineNow 57 = .ok (.invokevirtual 276, 3) := dk_182 1 20 (dk_at dksX1_machineNow_2 17 rfl rfl)
theorem dX1_machineNow_60 : decode cX1_machineNow 60 = .ok (.ifCond .eq 19, 3) := dk_153 0 19 (dk_at dksX1_machineNow_2 20 rfl rfl)
theorem dX1_machineNow_63 : decode cX1_machineNow 63 = .ok (.aload_n 0, 1) := dk_42 (dk_at dksX1_machineNow_2 23 rfl rfl)
theorem dX1_machineNow_64 : decode cX1_machineNow 64 = .ok (.getfield 308, 3) := dk_180 1 52 (dk_at dksX1_machineNow_3 0 rfl rfl)
theorem dX1_machineNow_67 : decode cX1_machineNow 67 = .ok (.invokevirtual 104, 3) := dk_182 0 104 (dk_at dksX1_machineNow_3 3 rfl rfl)
theorem dX1_machineNow_70 : decode cX1_machineNow 70 = .ok (.checkcast 255, 3) := dk_192 0 255 (dk_at dksX1_machineNow_3 6 rfl rfl)
theorem dX1_machineNow_73 : decode cX1_machineNow 73 = .ok (.invokevirtual 312, 3) := dk_182 1 56 (dk_at dksX1_machineNow_3 9 rfl rfl)
theorem dX1_machineNow_76 : decode cX1_machineNow 76 = .ok (.goto 4, 3) := dk_167 0 4 (dk_at dksX1_machineNow_3 12 rfl rfl)
theorem dX1_machineNow_79 : decode cX1_machineNow 79 = .ok (.iconst (-1), 1) := dk_2 (dk_at dksX1_machineNow_3 15 rfl rfl)
theorem dX1_machineNow_80 : decode cX1_machineNow 80 = .ok (.ireturn, 1) := dk_172 (dk_at dksX1_machineNow_3 16 rfl rfl)
theorem dX1_machineNow_81 : decode cX1_machineNow 81 = .ok (.aload_n 0, 1) := dk_42 (dk_at dksX1_machineNow_3 17 rfl rfl)
theorem dX1_machineNow_82 : decode cX1_machineNow 82 = .ok (.getfield 334, 3) := dk_180 1 78 (dk_at dksX1_machineNow_3 18 rfl rfl)
theorem dX1_machineNow_85 : decode cX1_machineNow 85 = .ok (.ireturn, 1) := dk_172 (dk_at dksX1_machineNow_3 21 rfl rfl)
theorem dX1_machineNow_86 : decode cX1_machineNow 86 = .ok (.aload_n 0, 1) := dk_42 (dk_at dksX1_machineNow_3 22 rfl rfl)
theorem dX1_machineNow_87 : decode cX1_machineNow 87 = .ok (.getfield 337, 3) := dk_180 1 81 (dk_at dksX1_machineNow_4 0 rfl rfl)
theorem dX1_machineNow_90 : decode cX1_machineNow 90 = .ok (.ireturn, 1) := dk_172 (dk_at dksX1_machineNow_4 3 rfl rfl)
theorem dX1_machineNow_91 : decode cX1_machineNow 91 = .ok (.aload_n 1, 1) := dk_43 (dk_at dksX1_machineNow_4 4 rfl rfl)
theorem dX1_machineNow_92 : decode cX1_machineNow 92 = .ok (.invokestatic 226, 3) := dk_184 0 226 (dk_at dksX1_machineNow_4 5 rfl rfl)
theorem dX1_machineNow_95 : decode cX1_machineNow 95 = .ok (.ireturn, 1) := dk_172 (dk_at dksX1_machineNow_4 8 rfl rfl)
theorem dX1_machineNow_96 : decode cX1_machineNow 96 = .ok (.aload_n 1, 1) := dk_43 (dk_at dksX1_machineNow_4 9 rfl rfl)
theorem dX1_machineNow_97 : decode cX1_machineNow 97 = .ok (.iload_n 2, 1) := dk_28 (dk_at dksX1_machineNow_4 10 rfl rfl)
theorem dX1_machineNow_98 : decode cX1_machineNow 98 = .ok (.invokestatic 340, 3) := dk_184 1 84 (dk_at dksX1_machineNow_4 11 rfl rfl)
theorem dX1_machineNow_101 : decode cX1_machineNow 101 = .ok (.ireturn, 1) := dk_172 (dk_at dksX1_machineNow_4 14 rfl rfl)
abbrev cX1_waysOf : ByteArray := prog_1_method_21_code
def yX1_waysOf : MethodName := ⟨RX1, "waysOf", "(LHaltingale$Walker;)I"⟩
def dkwX1_waysOf_0 : List UInt8 := [42, 182, 0, 215, 153, 0, 17, 4, 7, 42, 180, 0, 218, 182, 0, 219, 104, 96, 167, 0, 4, 3, 172]
abbrev dktX1_waysOf_0 : List UInt8 := dkwX1_waysOf_0 ++ []
theorem dksX1_waysOf_0 : cX1_waysOf.data.toList.drop 0 = dktX1_waysOf_0 := by decide +kernel
theorem dX1_waysOf_0 : decode cX1_waysOf 0 = .ok (.aload_n 0, 1) := dk_42 (dk_at dksX1_waysOf_0 0 rfl rfl)
theorem dX1_waysOf_1 : decode cX1_waysOf 1 = .ok (.invokevirtual 215, 3) := dk_182 0 215 (dk_at dksX1_waysOf_0 1 rfl rfl)
theorem dX1_waysOf_4 : decode cX1_waysOf 4 = .ok (.ifCond .eq 17, 3) := dk_153 0 17 (dk_at dksX1_waysOf_0 4 rfl rfl)
theorem dX1_waysOf_7 : decode cX1_waysOf 7 = .ok (.iconst 1, 1) := dk_4 (dk_at dksX1_waysOf_0 7 rfl rfl)
theorem dX1_waysOf_8 : decode cX1_waysOf 8 = .ok (.iconst 4, 1) := dk_7 (dk_at dksX1_waysOf_0 8 rfl rfl)
theorem dX1_waysOf_9 : decode cX1_waysOf 9 = .ok (.aload_n 0, 1) := dk_42 (dk_at dksX1_waysOf_0 9 rfl rfl)
theorem dX1_waysOf_10 : decode cX1_waysOf 10 = .ok (.getfield 218, 3) := dk_180 0 218 (dk_at dksX1_waysOf_0 10 rfl rfl)
theorem dX1_waysOf_13 : decode cX1_waysOf 13 = .ok (.invokevirtual 219, 3) := dk_182 0 219 (dk_at dksX1_waysOf_0 13 rfl rfl)
theorem dX1_waysOf_16 : decode cX1_waysOf 16 = .ok (.imul, 1) := dk_104 (dk_at dksX1_waysOf_0 16 rfl rfl)
theorem dX1_waysOf_17 : decode cX1_waysOf 17 = .ok (.iadd, 1) := dk_96 (dk_at dksX1_waysOf_0 17 rfl rfl)
theorem dX1_waysOf_18 : decode cX1_waysOf 18 = .ok (.goto 4, 3) := dk_167 0 4 (dk_at dksX1_waysOf_0 18 rfl rfl)
theorem dX1_waysOf_21 : decode cX1_waysOf 21 = .ok (.iconst 0, 1) := dk_3 (dk_at dksX1_waysOf_0 21 rfl rfl)
theorem dX1_waysOf_22 : decode cX1_waysOf 22 = .ok (.ireturn, 1) := dk_172 (dk_at dksX1_waysOf_0 22 rfl rfl)
abbrev cX1_scoreOf : ByteArray := prog_1_method_31_code
def yX1_scoreOf : MethodName := ⟨RX1, "scoreOf", "(LHaltingale$Walker;I)I"⟩
def dkwX1_scoreOf_1 : List UInt8 := [16, 7, 160, 0, 10, 42, 180, 0, 39, 167, 0, 10, 42, 180, 0, 18, 184, 1, 75, 172]
abbrev dktX1_scoreOf_1 : List UInt8 := dkwX1_scoreOf_1 ++ []
def dkwX1_scoreOf_0 : List UInt8 := [42, 182, 1, 49, 154, 0, 5, 2, 172, 27, 16, 6, 160, 0, 10, 42, 182, 1, 72, 167, 0, 23, 27]
abbrev dktX1_scoreOf_0 : List UInt8 := dkwX1_scoreOf_0 ++ dktX1_scoreOf_1
theorem dksX1_scoreOf_0 : cX1_scoreOf.data.toList.drop 0 = dktX1_scoreOf_0 := by decide +kernel
theorem dksX1_scoreOf_1 : cX1_scoreOf.data.toList.drop 23 = dktX1_scoreOf_1 := dk_seg dksX1_scoreOf_0 23 rfl rfl
theorem dX1_scoreOf_0 : decode cX1_scoreOf 0 = .ok (.aload_n 0, 1) := dk_42 (dk_at dksX1_scoreOf_0 0 rfl rfl)
theorem dX1_scoreOf_1 : decode cX1_scoreOf 1 = .ok (.invokevirtual 305, 3) := dk_182 1 49 (dk_at dksX1_scoreOf_0 1 rfl rfl)
theorem dX1_scoreOf_4 : decode cX1_scoreOf 4 = .ok (.ifCond .ne 5, 3) := dk_154 0 5 (dk_at dksX1_scoreOf_0 4 rfl rfl)
theorem dX1_scoreOf_7 : decode cX1_scoreOf 7 = .ok (.iconst (-1), 1) := dk_2 (dk_at dksX1_scoreOf_0 7 rfl rfl)
theorem dX1_scoreOf_8 : decode cX1_scoreOf 8 = .ok (.ireturn, 1) := dk_172 (dk_at dksX1_scoreOf_0 8 rfl rfl)
theorem dX1_scoreOf_9 : decode cX1_scoreOf 9 = .ok (.iload_n 1, 1) := dk_27 (dk_at dksX1_scoreOf_0 9 rfl rfl)
theorem dX1_scoreOf_10 : decode cX1_scoreOf 10 = .ok (.bipush 6, 2) := dk_16 6 (dk_at dksX1_scoreOf_0 10 rfl rfl)
theorem dX1_scoreOf_12 : decode cX1_scoreOf 12 = .ok (.if_icmp .ne 10, 3) := dk_160 0 10 (dk_at dksX1_scoreOf_0 12 rfl rfl)
theorem dX1_scoreOf_15 : decode cX1_scoreOf 15 = .ok (.aload_n 0, 1) := dk_42 (dk_at dksX1_scoreOf_0 15 rfl rfl)
theorem dX1_scoreOf_16 : decode cX1_scoreOf 16 = .ok (.invokevirtual 328, 3) := dk_182 1 72 (dk_at dksX1_scoreOf_0 16 rfl rfl)
theorem dX1_scoreOf_19 : decode cX1_scoreOf 19 = .ok (.goto 23, 3) := dk_167 0 23 (dk_at dksX1_scoreOf_0 19 rfl rfl)
theorem dX1_scoreOf_22 : decode cX1_scoreOf 22 = .ok (.iload_n 1, 1) := dk_27 (dk_at dksX1_scoreOf_0 22 rfl rfl)
theorem dX1_scoreOf_23 : decode cX1_scoreOf 23 = .ok (.bipush 7, 2) := dk_16 7 (dk_at dksX1_scoreOf_1 0 rfl rfl)
theorem dX1_scoreOf_25 : decode cX1_scoreOf 25 = .ok (.if_icmp .ne 10, 3) := dk_160 0 10 (dk_at dksX1_scoreOf_1 2 rfl rfl)
theorem dX1_scoreOf_28 : decode cX1_scoreOf 28 = .ok (.aload_n 0, 1) := dk_42 (dk_at dksX1_scoreOf_1 5 rfl rfl)
theorem dX1_scoreOf_29 : decode cX1_scoreOf 29 = .ok (.getfield 39, 3) := dk_180 0 39 (dk_at dksX1_scoreOf_1 6 rfl rfl)
theorem dX1_scoreOf_32 : decode cX1_scoreOf 32 = .ok (.goto 10, 3) := dk_167 0 10 (dk_at dksX1_scoreOf_1 9 rfl rfl)
theorem dX1_scoreOf_35 : decode cX1_scoreOf 35 = .ok (.aload_n 0, 1) := dk_42 (dk_at dksX1_scoreOf_1 12 rfl rfl)
theorem dX1_scoreOf_36 : decode cX1_scoreOf 36 = .ok (.getfield 18, 3) := dk_180 0 18 (dk_at dksX1_scoreOf_1 13 rfl rfl)
theorem dX1_scoreOf_39 : decode cX1_scoreOf 39 = .ok (.invokestatic 331, 3) := dk_184 1 75 (dk_at dksX1_scoreOf_1 16 rfl rfl)
theorem dX1_scoreOf_42 : decode cX1_scoreOf 42 = .ok (.ireturn, 1) := dk_172 (dk_at dksX1_scoreOf_1 19 rfl rfl)
abbrev cX1_cellNow : ByteArray := prog_1_method_29_code
def yX1_cellNow : MethodName := ⟨RX1, "cellNow", "(LHaltingale$Table;III)I"⟩
def dkwX1_cellNow_2 : List UInt8 := [192, 0, 107, 180, 1, 62, 184, 0, 36, 167, 0, 14, 25, 4, 182, 0, 104, 192, 0, 107, 180, 1, 65, 172]
abbrev dktX1_cellNow_2 : List UInt8 := dkwX1_cellNow_2 ++ []
def dkwX1_cellNow_1 : List UInt8 := [182, 0, 104, 192, 0, 107, 180, 1, 59, 167, 0, 37, 29, 4, 160, 0, 21, 3, 25, 4, 182, 0, 104]
abbrev dktX1_cellNow_1 : List UInt8 := dkwX1_cellNow_1 ++ dktX1_cellNow_2
def dkwX1_cellNow_0 : List UInt8 := [42, 27, 28, 182, 0, 95, 58, 4, 25, 4, 182, 0, 99, 154, 0, 5, 2, 172, 29, 154, 0, 17, 25, 4]
abbrev dktX1_cellNow_0 : List UInt8 := dkwX1_cellNow_0 ++ dktX1_cellNow_1
theorem dksX1_cellNow_0 : cX1_cellNow.data.toList.drop 0 = dktX1_cellNow_0 := by decide +kernel
theorem dksX1_cellNow_1 : cX1_cellNow.data.toList.drop 24 = dktX1_cellNow_1 := dk_seg dksX1_cellNow_0 24 rfl rfl
theorem dksX1_cellNow_2 : cX1_cellNow.data.toList.drop 47 = dktX1_cellNow_2 := dk_seg dksX1_cellNow_1 23 rfl rfl
theorem dX1_cellNow_0 : decode cX1_cellNow 0 = .ok (.aload_n 0, 1) := dk_42 (dk_at dksX1_cellNow_0 0 rfl rfl)
theorem dX1_cellNow_1 : decode cX1_cellNow 1 = .ok (.iload_n 1, 1) := dk_27 (dk_at dksX1_cellNow_0 1 rfl rfl)
theorem dX1_cellNow_2 : decode cX1_cellNow 2 = .ok (.iload_n 2, 1) := dk_28 (dk_at dksX1_cellNow_0 2 rfl rfl)
theorem dX1_cellNow_3 : decode cX1_cellNow 3 = .ok (.invokevirtual 95, 3) := dk_182 0 95 (dk_at dksX1_cellNow_0 3 rfl rfl)
theorem dX1_cellNow_6 : decode cX1_cellNow 6 = .ok (.astore 4, 2) := dk_58 4 (dk_at dksX1_cellNow_0 6 rfl rfl)
theorem dX1_cellNow_8 : decode cX1_cellNow 8 = .ok (.aload 4, 2) := dk_25 4 (dk_at dksX1_cellNow_0 8 rfl rfl)
theorem dX1_cellNow_10 : decode cX1_cellNow 10 = .ok (.invokevirtual 99, 3) := dk_182 0 99 (dk_at dksX1_cellNow_0 10 rfl rfl)
theorem dX1_cellNow_13 : decode cX1_cellNow 13 = .ok (.ifCond .ne 5, 3) := dk_154 0 5 (dk_at dksX1_cellNow_0 13 rfl rfl)
theorem dX1_cellNow_16 : decode cX1_cellNow 16 = .ok (.iconst (-1), 1) := dk_2 (dk_at dksX1_cellNow_0 16 rfl rfl)
theorem dX1_cellNow_17 : decode cX1_cellNow 17 = .ok (.ireturn, 1) := dk_172 (dk_at dksX1_cellNow_0 17 rfl rfl)
theorem dX1_cellNow_18 : decode cX1_cellNow 18 = .ok (.iload_n 3, 1) := dk_29 (dk_at dksX1_cellNow_0 18 rfl rfl)
theorem dX1_cellNow_19 : decode cX1_cellNow 19 = .ok (.ifCond .ne 17, 3) := dk_154 0 17 (dk_at dksX1_cellNow_0 19 rfl rfl)
theorem dX1_cellNow_22 : decode cX1_cellNow 22 = .ok (.aload 4, 2) := dk_25 4 (dk_at dksX1_cellNow_0 22 rfl rfl)
theorem dX1_cellNow_24 : decode cX1_cellNow 24 = .ok (.invokevirtual 104, 3) := dk_182 0 104 (dk_at dksX1_cellNow_1 0 rfl rfl)
theorem dX1_cellNow_27 : decode cX1_cellNow 27 = .ok (.checkcast 107, 3) := dk_192 0 107 (dk_at dksX1_cellNow_1 3 rfl rfl)
theorem dX1_cellNow_30 : decode cX1_cellNow 30 = .ok (.getfield 315, 3) := dk_180 1 59 (dk_at dksX1_cellNow_1 6 rfl rfl)
theorem dX1_cellNow_33 : decode cX1_cellNow 33 = .ok (.goto 37, 3) := dk_167 0 37 (dk_at dksX1_cellNow_1 9 rfl rfl)
theorem dX1_cellNow_36 : decode cX1_cellNow 36 = .ok (.iload_n 3, 1) := dk_29 (dk_at dksX1_cellNow_1 12 rfl rfl)
theorem dX1_cellNow_37 : decode cX1_cellNow 37 = .ok (.iconst 1, 1) := dk_4 (dk_at dksX1_cellNow_1 13 rfl rfl)
theorem dX1_cellNow_38 : decode cX1_cellNow 38 = .ok (.if_icmp .ne 21, 3) := dk_160 0 21 (dk_at dksX1_cellNow_1 14 rfl rfl)
theorem dX1_cellNow_41 : decode cX1_cellNow 41 = .ok (.iconst 0, 1) := dk_3 (dk_at dksX1_cellNow_1 17 rfl rfl)
theorem dX1_cellNow_42 : decode cX1_cellNow 42 = .ok (.aload 4, 2) := dk_25 4 (dk_at dksX1_cellNow_1 18 rfl rfl)
theorem dX1_cellNow_44 : decode cX1_cellNow 44 = .ok (.invokevirtual 104, 3) := dk_182 0 104 (dk_at dksX1_cellNow_1 20 rfl rfl)
theorem dX1_cellNow_47 : decode cX1_cellNow 47 = .ok (.checkcast 107, 3) := dk_192 0 107 (dk_at dksX1_cellNow_2 0 rfl rfl)
theorem dX1_cellNow_50 : decode cX1_cellNow 50 = .ok (.getfield 318, 3) := dk_180 1 62 (dk_at dksX1_cellNow_2 3 rfl rfl)
theorem dX1_cellNow_53 : decode cX1_cellNow 53 = .ok (.invokestatic 36, 3) := dk_184 0 36 (dk_at dksX1_cellNow_2 6 rfl rfl)
theorem dX1_cellNow_56 : decode cX1_cellNow 56 = .ok (.goto 14, 3) := dk_167 0 14 (dk_at dksX1_cellNow_2 9 rfl rfl)
theorem dX1_cellNow_59 : decode cX1_cellNow 59 = .ok (.aload 4, 2) := dk_25 4 (dk_at dksX1_cellNow_2 12 rfl rfl)
theorem dX1_cellNow_61 : decode cX1_cellNow 61 = .ok (.invokevirtual 104, 3) := dk_182 0 104 (dk_at dksX1_cellNow_2 14 rfl rfl)
theorem dX1_cellNow_64 : decode cX1_cellNow 64 = .ok (.checkcast 107, 3) := dk_192 0 107 (dk_at dksX1_cellNow_2 17 rfl rfl)
theorem dX1_cellNow_67 : decode cX1_cellNow 67 = .ok (.getfield 321, 3) := dk_180 1 65 (dk_at dksX1_cellNow_2 20 rfl rfl)
theorem dX1_cellNow_70 : decode cX1_cellNow 70 = .ok (.ireturn, 1) := dk_172 (dk_at dksX1_cellNow_2 23 rfl rfl)
abbrev cX1_atNow : ByteArray := prog_1_method_35_code
def yX1_atNow : MethodName := ⟨RX1, "atNow", "(LHaltingale$Walker;I)I"⟩
def dkwX1_atNow_0 : List UInt8 := [27, 16, 7, 160, 0, 10, 42, 184, 1, 99, 167, 0, 8, 42, 27, 182, 1, 102, 172]
abbrev dktX1_atNow_0 : List UInt8 := dkwX1_atNow_0 ++ []
theorem dksX1_atNow_0 : cX1_atNow.data.toList.drop 0 = dktX1_atNow_0 := by decide +kernel
theorem dX1_atNow_0 : decode cX1_atNow 0 = .ok (.iload_n 1, 1) := dk_27 (dk_at dksX1_atNow_0 0 rfl rfl)
theorem dX1_atNow_1 : decode cX1_atNow 1 = .ok (.bipush 7, 2) := dk_16 7 (dk_at dksX1_atNow_0 1 rfl rfl)
theorem dX1_atNow_3 : decode cX1_atNow 3 = .ok (.if_icmp .ne 10, 3) := dk_160 0 10 (dk_at dksX1_atNow_0 3 rfl rfl)
theorem dX1_atNow_6 : decode cX1_atNow 6 = .ok (.aload_n 0, 1) := dk_42 (dk_at dksX1_atNow_0 6 rfl rfl)
theorem dX1_atNow_7 : decode cX1_atNow 7 = .ok (.invokestatic 355, 3) := dk_184 1 99 (dk_at dksX1_atNow_0 7 rfl rfl)
theorem dX1_atNow_10 : decode cX1_atNow 10 = .ok (.goto 8, 3) := dk_167 0 8 (dk_at dksX1_atNow_0 10 rfl rfl)
theorem dX1_atNow_13 : decode cX1_atNow 13 = .ok (.aload_n 0, 1) := dk_42 (dk_at dksX1_atNow_0 13 rfl rfl)
theorem dX1_atNow_14 : decode cX1_atNow 14 = .ok (.iload_n 1, 1) := dk_27 (dk_at dksX1_atNow_0 14 rfl rfl)
theorem dX1_atNow_15 : decode cX1_atNow 15 = .ok (.invokevirtual 358, 3) := dk_182 1 102 (dk_at dksX1_atNow_0 15 rfl rfl)
theorem dX1_atNow_18 : decode cX1_atNow 18 = .ok (.ireturn, 1) := dk_172 (dk_at dksX1_atNow_0 18 rfl rfl)
abbrev cX1_eighths : ByteArray := prog_1_method_34_code
def yX1_eighths : MethodName := ⟨RX1, "eighths", "(LHaltingale$Walker;)I"⟩
def dkwX1_eighths_1 : List UInt8 := [140, 136, 172]
abbrev dktX1_eighths_1 : List UInt8 := dkwX1_eighths_1 ++ []
def dkwX1_eighths_0 : List UInt8 := [19, 1, 92, 42, 182, 1, 72, 134, 106, 42, 180, 1, 93, 42, 180, 1, 96, 100, 4, 96, 134, 110, 68, 35]
abbrev dktX1_eighths_0 : List UInt8 := dkwX1_eighths_0 ++ dktX1_eighths_1
theorem dksX1_eighths_0 : cX1_eighths.data.toList.drop 0 = dktX1_eighths_0 := by decide +kernel
theorem dksX1_eighths_1 : cX1_eighths.data.toList.drop 24 = dktX1_eighths_1 := dk_seg dksX1_eighths_0 24 rfl rfl
theorem dX1_eighths_0 : decode cX1_eighths 0 = .ok (.ldc_w 348, 3) := dk_19 1 92 (dk_at dksX1_eighths_0 0 rfl rfl)
theorem dX1_eighths_3 : decode cX1_eighths 3 = .ok (.aload_n 0, 1) := dk_42 (dk_at dksX1_eighths_0 3 rfl rfl)
theorem dX1_eighths_4 : decode cX1_eighths 4 = .ok (.invokevirtual 328, 3) := dk_182 1 72 (dk_at dksX1_eighths_0 4 rfl rfl)
theorem dX1_eighths_7 : decode cX1_eighths 7 = .ok (.i2f, 1) := dk_134 (dk_at dksX1_eighths_0 7 rfl rfl)
theorem dX1_eighths_8 : decode cX1_eighths 8 = .ok (.fmul, 1) := dk_106 (dk_at dksX1_eighths_0 8 rfl rfl)
theorem dX1_eighths_9 : decode cX1_eighths 9 = .ok (.aload_n 0, 1) := dk_42 (dk_at dksX1_eighths_0 9 rfl rfl)
theorem dX1_eighths_10 : decode cX1_eighths 10 = .ok (.getfield 349, 3) := dk_180 1 93 (dk_at dksX1_eighths_0 10 rfl rfl)
theorem dX1_eighths_13 : decode cX1_eighths 13 = .ok (.aload_n 0, 1) := dk_42 (dk_at dksX1_eighths_0 13 rfl rfl)
theorem dX1_eighths_14 : decode cX1_eighths 14 = .ok (.getfield 352, 3) := dk_180 1 96 (dk_at dksX1_eighths_0 14 rfl rfl)
theorem dX1_eighths_17 : decode cX1_eighths 17 = .ok (.isub, 1) := dk_100 (dk_at dksX1_eighths_0 17 rfl rfl)
theorem dX1_eighths_18 : decode cX1_eighths 18 = .ok (.iconst 1, 1) := dk_4 (dk_at dksX1_eighths_0 18 rfl rfl)
theorem dX1_eighths_19 : decode cX1_eighths 19 = .ok (.iadd, 1) := dk_96 (dk_at dksX1_eighths_0 19 rfl rfl)
theorem dX1_eighths_20 : decode cX1_eighths 20 = .ok (.i2f, 1) := dk_134 (dk_at dksX1_eighths_0 20 rfl rfl)
theorem dX1_eighths_21 : decode cX1_eighths 21 = .ok (.fdiv, 1) := dk_110 (dk_at dksX1_eighths_0 21 rfl rfl)
theorem dX1_eighths_22 : decode cX1_eighths 22 = .ok (.fstore_n 1, 1) := dk_68 (dk_at dksX1_eighths_0 22 rfl rfl)
theorem dX1_eighths_23 : decode cX1_eighths 23 = .ok (.fload_n 1, 1) := dk_35 (dk_at dksX1_eighths_0 23 rfl rfl)
theorem dX1_eighths_24 : decode cX1_eighths 24 = .ok (.f2l, 1) := dk_140 (dk_at dksX1_eighths_1 0 rfl rfl)
theorem dX1_eighths_25 : decode cX1_eighths 25 = .ok (.l2i, 1) := dk_136 (dk_at dksX1_eighths_1 1 rfl rfl)
theorem dX1_eighths_26 : decode cX1_eighths 26 = .ok (.ireturn, 1) := dk_172 (dk_at dksX1_eighths_1 2 rfl rfl)
abbrev cX1_cycleNow : ByteArray := prog_1_method_4_code
def yX1_cycleNow : MethodName := ⟨RX1, "cycleNow", "(LHaltingale$Table;I)I"⟩
def dkwX1_cycleNow_2 : List UInt8 := [172, 132, 4, 1, 167, 255, 225, 132, 3, 1, 167, 255, 206, 2, 172]
abbrev dktX1_cycleNow_2 : List UInt8 := dkwX1_cycleNow_2 ++ []
def dkwX1_cycleNow_1 : List UInt8 := [162, 0, 31, 44, 21, 4, 29, 184, 0, 69, 153, 0, 15, 17, 0, 200, 21, 4, 104, 29, 96, 21, 4, 100]
abbrev dktX1_cycleNow_1 : List UInt8 := dkwX1_cycleNow_1 ++ dktX1_cycleNow_2
def dkwX1_cycleNow_0 : List UInt8 := [42, 27, 184, 0, 65, 77, 4, 62, 29, 44, 185, 0, 56, 1, 0, 162, 0, 46, 3, 54, 4, 21, 4, 29]
abbrev dktX1_cycleNow_0 : List UInt8 := dkwX1_cycleNow_0 ++ dktX1_cycleNow_1
theorem dksX1_cycleNow_0 : cX1_cycleNow.data.toList.drop 0 = dktX1_cycleNow_0 := by decide +kernel
theorem dksX1_cycleNow_1 : cX1_cycleNow.data.toList.drop 24 = dktX1_cycleNow_1 := dk_seg dksX1_cycleNow_0 24 rfl rfl
theorem dksX1_cycleNow_2 : cX1_cycleNow.data.toList.drop 48 = dktX1_cycleNow_2 := dk_seg dksX1_cycleNow_1 24 rfl rfl
theorem dX1_cycleNow_0 : decode cX1_cycleNow 0 = .ok (.aload_n 0, 1) := dk_42 (dk_at dksX1_cycleNow_0 0 rfl rfl)
theorem dX1_cycleNow_1 : decode cX1_cycleNow 1 = .ok (.iload_n 1, 1) := dk_27 (dk_at dksX1_cycleNow_0 1 rfl rfl)
theorem dX1_cycleNow_2 : decode cX1_cycleNow 2 = .ok (.invokestatic 65, 3) := dk_184 0 65 (dk_at dksX1_cycleNow_0 2 rfl rfl)
theorem dX1_cycleNow_5 : decode cX1_cycleNow 5 = .ok (.astore_n 2, 1) := dk_77 (dk_at dksX1_cycleNow_0 5 rfl rfl)
theorem dX1_cycleNow_6 : decode cX1_cycleNow 6 = .ok (.iconst 1, 1) := dk_4 (dk_at dksX1_cycleNow_0 6 rfl rfl)
theorem dX1_cycleNow_7 : decode cX1_cycleNow 7 = .ok (.istore_n 3, 1) := dk_62 (dk_at dksX1_cycleNow_0 7 rfl rfl)
theorem dX1_cycleNow_8 : decode cX1_cycleNow 8 = .ok (.iload_n 3, 1) := dk_29 (dk_at dksX1_cycleNow_0 8 rfl rfl)
theorem dX1_cycleNow_9 : decode cX1_cycleNow 9 = .ok (.aload_n 2, 1) := dk_44 (dk_at dksX1_cycleNow_0 9 rfl rfl)
theorem dX1_cycleNow_10 : decode cX1_cycleNow 10 = .ok (.invokeinterface 56 1, 5) := by decide +kernel
theorem dX1_cycleNow_15 : decode cX1_cycleNow 15 = .ok (.if_icmp .ge 46, 3) := dk_162 0 46 (dk_at dksX1_cycleNow_0 15 rfl rfl)
theorem dX1_cycleNow_18 : decode cX1_cycleNow 18 = .ok (.iconst 0, 1) := dk_3 (dk_at dksX1_cycleNow_0 18 rfl rfl)
theorem dX1_cycleNow_19 : decode cX1_cycleNow 19 = .ok (.istore 4, 2) := dk_54 4 (dk_at dksX1_cycleNow_0 19 rfl rfl)
theorem dX1_cycleNow_21 : decode cX1_cycleNow 21 = .ok (.iload 4, 2) := dk_21 4 (dk_at dksX1_cycleNow_0 21 rfl rfl)
theorem dX1_cycleNow_23 : decode cX1_cycleNow 23 = .ok (.iload_n 3, 1) := dk_29 (dk_at dksX1_cycleNow_0 23 rfl rfl)
theorem dX1_cycleNow_24 : decode cX1_cycleNow 24 = .ok (.if_icmp .ge 31, 3) := dk_162 0 31 (dk_at dksX1_cycleNow_1 0 rfl rfl)
theorem dX1_cycleNow_27 : decode cX1_cycleNow 27 = .ok (.aload_n 2, 1) := dk_44 (dk_at dksX1_cycleNow_1 3 rfl rfl)
theorem dX1_cycleNow_28 : decode cX1_cycleNow 28 = .ok (.iload 4, 2) := dk_21 4 (dk_at dksX1_cycleNow_1 4 rfl rfl)
theorem dX1_cycleNow_30 : decode cX1_cycleNow 30 = .ok (.iload_n 3, 1) := dk_29 (dk_at dksX1_cycleNow_1 6 rfl rfl)
theorem dX1_cycleNow_31 : decode cX1_cycleNow 31 = .ok (.invokestatic 69, 3) := dk_184 0 69 (dk_at dksX1_cycleNow_1 7 rfl rfl)
theorem dX1_cycleNow_34 : decode cX1_cycleNow 34 = .ok (.ifCond .eq 15, 3) := dk_153 0 15 (dk_at dksX1_cycleNow_1 10 rfl rfl)
theorem dX1_cycleNow_37 : decode cX1_cycleNow 37 = .ok (.sipush 200, 3) := dk_17 0 200 (dk_at dksX1_cycleNow_1 13 rfl rfl)
theorem dX1_cycleNow_40 : decode cX1_cycleNow 40 = .ok (.iload 4, 2) := dk_21 4 (dk_at dksX1_cycleNow_1 16 rfl rfl)
theorem dX1_cycleNow_42 : decode cX1_cycleNow 42 = .ok (.imul, 1) := dk_104 (dk_at dksX1_cycleNow_1 18 rfl rfl)
theorem dX1_cycleNow_43 : decode cX1_cycleNow 43 = .ok (.iload_n 3, 1) := dk_29 (dk_at dksX1_cycleNow_1 19 rfl rfl)
theorem dX1_cycleNow_44 : decode cX1_cycleNow 44 = .ok (.iadd, 1) := dk_96 (dk_at dksX1_cycleNow_1 20 rfl rfl)
theorem dX1_cycleNow_45 : decode cX1_cycleNow 45 = .ok (.iload 4, 2) := dk_21 4 (dk_at dksX1_cycleNow_1 21 rfl rfl)
theorem dX1_cycleNow_47 : decode cX1_cycleNow 47 = .ok (.isub, 1) := dk_100 (dk_at dksX1_cycleNow_1 23 rfl rfl)
theorem dX1_cycleNow_48 : decode cX1_cycleNow 48 = .ok (.ireturn, 1) := dk_172 (dk_at dksX1_cycleNow_2 0 rfl rfl)
theorem dX1_cycleNow_49 : decode cX1_cycleNow 49 = .ok (.iinc 4 1, 3) := dk_132 4 1 (dk_at dksX1_cycleNow_2 1 rfl rfl)
theorem dX1_cycleNow_52 : decode cX1_cycleNow 52 = .ok (.goto (-31), 3) := dk_167 255 225 (dk_at dksX1_cycleNow_2 4 rfl rfl)
theorem dX1_cycleNow_55 : decode cX1_cycleNow 55 = .ok (.iinc 3 1, 3) := dk_132 3 1 (dk_at dksX1_cycleNow_2 7 rfl rfl)
theorem dX1_cycleNow_58 : decode cX1_cycleNow 58 = .ok (.goto (-50), 3) := dk_167 255 206 (dk_at dksX1_cycleNow_2 10 rfl rfl)
theorem dX1_cycleNow_61 : decode cX1_cycleNow 61 = .ok (.iconst (-1), 1) := dk_2 (dk_at dksX1_cycleNow_2 13 rfl rfl)
theorem dX1_cycleNow_62 : decode cX1_cycleNow 62 = .ok (.ireturn, 1) := dk_172 (dk_at dksX1_cycleNow_2 14 rfl rfl)
abbrev cX1_looks : ByteArray := prog_1_method_2_code
def yX1_looks : MethodName := ⟨RX1, "looks", "(LHaltingale$Table;I)Ljava/util/List;"⟩
def dkwX1_looks_3 : List UInt8 := [167, 255, 220, 44, 176]
abbrev dktX1_looks_3 : List UInt8 := dkwX1_looks_3 ++ []
def dkwX1_looks_2 : List UInt8 := [153, 0, 25, 45, 182, 0, 26, 44, 187, 0, 13, 89, 45, 183, 0, 15, 185, 0, 50, 2, 0, 87]
abbrev dktX1_looks_2 : List UInt8 := dkwX1_looks_2 ++ dktX1_looks_3
def dkwX1_looks_1 : List UInt8 := [183, 0, 15, 185, 0, 50, 2, 0, 87, 44, 185, 0, 56, 1, 0, 27, 163, 0, 32, 45, 182, 0, 22]
abbrev dktX1_looks_1 : List UInt8 := dkwX1_looks_1 ++ dktX1_looks_2
def dkwX1_looks_0 : List UInt8 := [187, 0, 46, 89, 183, 0, 48, 77, 187, 0, 3, 89, 42, 27, 183, 0, 5, 78, 44, 187, 0, 13, 89, 45]
abbrev dktX1_looks_0 : List UInt8 := dkwX1_looks_0 ++ dktX1_looks_1
theorem dksX1_looks_0 : cX1_looks.data.toList.drop 0 = dktX1_looks_0 := by decide +kernel
theorem dksX1_looks_1 : cX1_looks.data.toList.drop 24 = dktX1_looks_1 := dk_seg dksX1_looks_0 24 rfl rfl
theorem dksX1_looks_2 : cX1_looks.data.toList.drop 47 = dktX1_looks_2 := dk_seg dksX1_looks_1 23 rfl rfl
theorem dksX1_looks_3 : cX1_looks.data.toList.drop 69 = dktX1_looks_3 := dk_seg dksX1_looks_2 22 rfl rfl
theorem dX1_looks_0 : decode cX1_looks 0 = .ok (.new 46, 3) := dk_187 0 46 (dk_at dksX1_looks_0 0 rfl rfl)
theorem dX1_looks_3 : decode cX1_looks 3 = .ok (.dup, 1) := dk_89 (dk_at dksX1_looks_0 3 rfl rfl)
theorem dX1_looks_4 : decode cX1_looks 4 = .ok (.invokespecial 48, 3) := dk_183 0 48 (dk_at dksX1_looks_0 4 rfl rfl)
theorem dX1_looks_7 : decode cX1_looks 7 = .ok (.astore_n 2, 1) := dk_77 (dk_at dksX1_looks_0 7 rfl rfl)
theorem dX1_looks_8 : decode cX1_looks 8 = .ok (.new 3, 3) := dk_187 0 3 (dk_at dksX1_looks_0 8 rfl rfl)
theorem dX1_looks_11 : decode cX1_looks 11 = .ok (.dup, 1) := dk_89 (dk_at dksX1_looks_0 11 rfl rfl)
theorem dX1_looks_12 : decode cX1_looks 12 = .ok (.aload_n 0, 1) := dk_42 (dk_at dksX1_looks_0 12 rfl rfl)
theorem dX1_looks_13 : decode cX1_looks 13 = .ok (.iload_n 1, 1) := dk_27 (dk_at dksX1_looks_0 13 rfl rfl)
theorem dX1_looks_14 : decode cX1_looks 14 = .ok (.invokespecial 5, 3) := dk_183 0 5 (dk_at dksX1_looks_0 14 rfl rfl)
theorem dX1_looks_17 : decode cX1_looks 17 = .ok (.astore_n 3, 1) := dk_78 (dk_at dksX1_looks_0 17 rfl rfl)
theorem dX1_looks_18 : decode cX1_looks 18 = .ok (.aload_n 2, 1) := dk_44 (dk_at dksX1_looks_0 18 rfl rfl)
theorem dX1_looks_19 : decode cX1_looks 19 = .ok (.new 13, 3) := dk_187 0 13 (dk_at dksX1_looks_0 19 rfl rfl)
theorem dX1_looks_22 : decode cX1_looks 22 = .ok (.dup, 1) := dk_89 (dk_at dksX1_looks_0 22 rfl rfl)
theorem dX1_looks_23 : decode cX1_looks 23 = .ok (.aload_n 3, 1) := dk_45 (dk_at dksX1_looks_0 23 rfl rfl)
theorem dX1_looks_24 : decode cX1_looks 24 = .ok (.invokespecial 15, 3) := dk_183 0 15 (dk_at dksX1_looks_1 0 rfl rfl)
theorem dX1_looks_27 : decode cX1_looks 27 = .ok (.invokeinterface 50 2, 5) := by decide +kernel
theorem dX1_looks_32 : decode cX1_looks 32 = .ok (.pop, 1) := dk_87 (dk_at dksX1_looks_1 8 rfl rfl)
theorem dX1_looks_33 : decode cX1_looks 33 = .ok (.aload_n 2, 1) := dk_44 (dk_at dksX1_looks_1 9 rfl rfl)
theorem dX1_looks_34 : decode cX1_looks 34 = .ok (.invokeinterface 56 1, 5) := by decide +kernel
theorem dX1_looks_39 : decode cX1_looks 39 = .ok (.iload_n 1, 1) := dk_27 (dk_at dksX1_looks_1 15 rfl rfl)
theorem dX1_looks_40 : decode cX1_looks 40 = .ok (.if_icmp .gt 32, 3) := dk_163 0 32 (dk_at dksX1_looks_1 16 rfl rfl)
theorem dX1_looks_43 : decode cX1_looks 43 = .ok (.aload_n 3, 1) := dk_45 (dk_at dksX1_looks_1 19 rfl rfl)
theorem dX1_looks_44 : decode cX1_looks 44 = .ok (.invokevirtual 22, 3) := dk_182 0 22 (dk_at dksX1_looks_1 20 rfl rfl)
theorem dX1_looks_47 : decode cX1_looks 47 = .ok (.ifCond .eq 25, 3) := dk_153 0 25 (dk_at dksX1_looks_2 0 rfl rfl)
theorem dX1_looks_50 : decode cX1_looks 50 = .ok (.aload_n 3, 1) := dk_45 (dk_at dksX1_looks_2 3 rfl rfl)
theorem dX1_looks_51 : decode cX1_looks 51 = .ok (.invokevirtual 26, 3) := dk_182 0 26 (dk_at dksX1_looks_2 4 rfl rfl)
theorem dX1_looks_54 : decode cX1_looks 54 = .ok (.aload_n 2, 1) := dk_44 (dk_at dksX1_looks_2 7 rfl rfl)
theorem dX1_looks_55 : decode cX1_looks 55 = .ok (.new 13, 3) := dk_187 0 13 (dk_at dksX1_looks_2 8 rfl rfl)
theorem dX1_looks_58 : decode cX1_looks 58 = .ok (.dup, 1) := dk_89 (dk_at dksX1_looks_2 11 rfl rfl)
theorem dX1_looks_59 : decode cX1_looks 59 = .ok (.aload_n 3, 1) := dk_45 (dk_at dksX1_looks_2 12 rfl rfl)
theorem dX1_looks_60 : decode cX1_looks 60 = .ok (.invokespecial 15, 3) := dk_183 0 15 (dk_at dksX1_looks_2 13 rfl rfl)
theorem dX1_looks_63 : decode cX1_looks 63 = .ok (.invokeinterface 50 2, 5) := by decide +kernel
theorem dX1_looks_68 : decode cX1_looks 68 = .ok (.pop, 1) := dk_87 (dk_at dksX1_looks_2 21 rfl rfl)
theorem dX1_looks_69 : decode cX1_looks 69 = .ok (.goto (-36), 3) := dk_167 255 220 (dk_at dksX1_looks_3 0 rfl rfl)
theorem dX1_looks_72 : decode cX1_looks 72 = .ok (.aload_n 2, 1) := dk_44 (dk_at dksX1_looks_3 3 rfl rfl)
theorem dX1_looks_73 : decode cX1_looks 73 = .ok (.areturn, 1) := dk_176 (dk_at dksX1_looks_3 4 rfl rfl)
abbrev cX1_isCycle : ByteArray := prog_1_method_3_code
def yX1_isCycle : MethodName := ⟨RX1, "isCycle", "(Ljava/util/List;II)Z"⟩
def dkwX1_isCycle_4 : List UInt8 := [21, 4, 182, 0, 42, 172]
abbrev dktX1_isCycle_4 : List UInt8 := dkwX1_isCycle_4 ++ []
def dkwX1_isCycle_3 : List UInt8 := [167, 255, 207, 42, 27, 185, 0, 60, 2, 0, 192, 0, 13, 42, 28, 185, 0, 60, 2, 0, 192, 0, 13, 29]
abbrev dktX1_isCycle_3 : List UInt8 := dkwX1_isCycle_3 ++ dktX1_isCycle_4
def dkwX1_isCycle_2 : List UInt8 := [42, 21, 5, 185, 0, 60, 2, 0, 192, 0, 13, 180, 0, 64, 184, 0, 36, 54, 4, 132, 5, 1]
abbrev dktX1_isCycle_2 : List UInt8 := dkwX1_isCycle_2 ++ dktX1_isCycle_3
def dkwX1_isCycle_1 : List UInt8 := [163, 0, 49, 29, 42, 21, 5, 185, 0, 60, 2, 0, 192, 0, 13, 180, 0, 64, 184, 0, 30, 62, 21, 4]
abbrev dktX1_isCycle_1 : List UInt8 := dkwX1_isCycle_1 ++ dktX1_isCycle_2
def dkwX1_isCycle_0 : List UInt8 := [42, 27, 185, 0, 60, 2, 0, 192, 0, 13, 180, 0, 64, 62, 29, 54, 4, 27, 54, 5, 21, 5, 28]
abbrev dktX1_isCycle_0 : List UInt8 := dkwX1_isCycle_0 ++ dktX1_isCycle_1
theorem dksX1_isCycle_0 : cX1_isCycle.data.toList.drop 0 = dktX1_isCycle_0 := by decide +kernel
theorem dksX1_isCycle_1 : cX1_isCycle.data.toList.drop 23 = dktX1_isCycle_1 := dk_seg dksX1_isCycle_0 23 rfl rfl
theorem dksX1_isCycle_2 : cX1_isCycle.data.toList.drop 47 = dktX1_isCycle_2 := dk_seg dksX1_isCycle_1 24 rfl rfl
theorem dksX1_isCycle_3 : cX1_isCycle.data.toList.drop 69 = dktX1_isCycle_3 := dk_seg dksX1_isCycle_2 22 rfl rfl
theorem dksX1_isCycle_4 : cX1_isCycle.data.toList.drop 93 = dktX1_isCycle_4 := dk_seg dksX1_isCycle_3 24 rfl rfl
theorem dX1_isCycle_0 : decode cX1_isCycle 0 = .ok (.aload_n 0, 1) := dk_42 (dk_at dksX1_isCycle_0 0 rfl rfl)
theorem dX1_isCycle_1 : decode cX1_isCycle 1 = .ok (.iload_n 1, 1) := dk_27 (dk_at dksX1_isCycle_0 1 rfl rfl)
theorem dX1_isCycle_2 : decode cX1_isCycle 2 = .ok (.invokeinterface 60 2, 5) := by decide +kernel
theorem dX1_isCycle_7 : decode cX1_isCycle 7 = .ok (.checkcast 13, 3) := dk_192 0 13 (dk_at dksX1_isCycle_0 7 rfl rfl)
theorem dX1_isCycle_10 : decode cX1_isCycle 10 = .ok (.getfield 64, 3) := dk_180 0 64 (dk_at dksX1_isCycle_0 10 rfl rfl)
theorem dX1_isCycle_13 : decode cX1_isCycle 13 = .ok (.istore_n 3, 1) := dk_62 (dk_at dksX1_isCycle_0 13 rfl rfl)
theorem dX1_isCycle_14 : decode cX1_isCycle 14 = .ok (.iload_n 3, 1) := dk_29 (dk_at dksX1_isCycle_0 14 rfl rfl)
theorem dX1_isCycle_15 : decode cX1_isCycle 15 = .ok (.istore 4, 2) := dk_54 4 (dk_at dksX1_isCycle_0 15 rfl rfl)
theorem dX1_isCycle_17 : decode cX1_isCycle 17 = .ok (.iload_n 1, 1) := dk_27 (dk_at dksX1_isCycle_0 17 rfl rfl)
theorem dX1_isCycle_18 : decode cX1_isCycle 18 = .ok (.istore 5, 2) := dk_54 5 (dk_at dksX1_isCycle_0 18 rfl rfl)
theorem dX1_isCycle_20 : decode cX1_isCycle 20 = .ok (.iload 5, 2) := dk_21 5 (dk_at dksX1_isCycle_0 20 rfl rfl)
theorem dX1_isCycle_22 : decode cX1_isCycle 22 = .ok (.iload_n 2, 1) := dk_28 (dk_at dksX1_isCycle_0 22 rfl rfl)
theorem dX1_isCycle_23 : decode cX1_isCycle 23 = .ok (.if_icmp .gt 49, 3) := dk_163 0 49 (dk_at dksX1_isCycle_1 0 rfl rfl)
theorem dX1_isCycle_26 : decode cX1_isCycle 26 = .ok (.iload_n 3, 1) := dk_29 (dk_at dksX1_isCycle_1 3 rfl rfl)
theorem dX1_isCycle_27 : decode cX1_isCycle 27 = .ok (.aload_n 0, 1) := dk_42 (dk_at dksX1_isCycle_1 4 rfl rfl)
theorem dX1_isCycle_28 : decode cX1_isCycle 28 = .ok (.iload 5, 2) := dk_21 5 (dk_at dksX1_isCycle_1 5 rfl rfl)
theorem dX1_isCycle_30 : decode cX1_isCycle 30 = .ok (.invokeinterface 60 2, 5) := by decide +kernel
theorem dX1_isCycle_35 : decode cX1_isCycle 35 = .ok (.checkcast 13, 3) := dk_192 0 13 (dk_at dksX1_isCycle_1 12 rfl rfl)
theorem dX1_isCycle_38 : decode cX1_isCycle 38 = .ok (.getfield 64, 3) := dk_180 0 64 (dk_at dksX1_isCycle_1 15 rfl rfl)
theorem dX1_isCycle_41 : decode cX1_isCycle 41 = .ok (.invokestatic 30, 3) := dk_184 0 30 (dk_at dksX1_isCycle_1 18 rfl rfl)
theorem dX1_isCycle_44 : decode cX1_isCycle 44 = .ok (.istore_n 3, 1) := dk_62 (dk_at dksX1_isCycle_1 21 rfl rfl)
theorem dX1_isCycle_45 : decode cX1_isCycle 45 = .ok (.iload 4, 2) := dk_21 4 (dk_at dksX1_isCycle_1 22 rfl rfl)
theorem dX1_isCycle_47 : decode cX1_isCycle 47 = .ok (.aload_n 0, 1) := dk_42 (dk_at dksX1_isCycle_2 0 rfl rfl)
theorem dX1_isCycle_48 : decode cX1_isCycle 48 = .ok (.iload 5, 2) := dk_21 5 (dk_at dksX1_isCycle_2 1 rfl rfl)
theorem dX1_isCycle_50 : decode cX1_isCycle 50 = .ok (.invokeinterface 60 2, 5) := by decide +kernel
theorem dX1_isCycle_55 : decode cX1_isCycle 55 = .ok (.checkcast 13, 3) := dk_192 0 13 (dk_at dksX1_isCycle_2 8 rfl rfl)
theorem dX1_isCycle_58 : decode cX1_isCycle 58 = .ok (.getfield 64, 3) := dk_180 0 64 (dk_at dksX1_isCycle_2 11 rfl rfl)
theorem dX1_isCycle_61 : decode cX1_isCycle 61 = .ok (.invokestatic 36, 3) := dk_184 0 36 (dk_at dksX1_isCycle_2 14 rfl rfl)
theorem dX1_isCycle_64 : decode cX1_isCycle 64 = .ok (.istore 4, 2) := dk_54 4 (dk_at dksX1_isCycle_2 17 rfl rfl)
theorem dX1_isCycle_66 : decode cX1_isCycle 66 = .ok (.iinc 5 1, 3) := dk_132 5 1 (dk_at dksX1_isCycle_2 19 rfl rfl)
theorem dX1_isCycle_69 : decode cX1_isCycle 69 = .ok (.goto (-49), 3) := dk_167 255 207 (dk_at dksX1_isCycle_3 0 rfl rfl)
theorem dX1_isCycle_72 : decode cX1_isCycle 72 = .ok (.aload_n 0, 1) := dk_42 (dk_at dksX1_isCycle_3 3 rfl rfl)
theorem dX1_isCycle_73 : decode cX1_isCycle 73 = .ok (.iload_n 1, 1) := dk_27 (dk_at dksX1_isCycle_3 4 rfl rfl)
theorem dX1_isCycle_74 : decode cX1_isCycle 74 = .ok (.invokeinterface 60 2, 5) := by decide +kernel
theorem dX1_isCycle_79 : decode cX1_isCycle 79 = .ok (.checkcast 13, 3) := dk_192 0 13 (dk_at dksX1_isCycle_3 10 rfl rfl)
theorem dX1_isCycle_82 : decode cX1_isCycle 82 = .ok (.aload_n 0, 1) := dk_42 (dk_at dksX1_isCycle_3 13 rfl rfl)
theorem dX1_isCycle_83 : decode cX1_isCycle 83 = .ok (.iload_n 2, 1) := dk_28 (dk_at dksX1_isCycle_3 14 rfl rfl)
theorem dX1_isCycle_84 : decode cX1_isCycle 84 = .ok (.invokeinterface 60 2, 5) := by decide +kernel
theorem dX1_isCycle_89 : decode cX1_isCycle 89 = .ok (.checkcast 13, 3) := dk_192 0 13 (dk_at dksX1_isCycle_3 20 rfl rfl)
theorem dX1_isCycle_92 : decode cX1_isCycle 92 = .ok (.iload_n 3, 1) := dk_29 (dk_at dksX1_isCycle_3 23 rfl rfl)
theorem dX1_isCycle_93 : decode cX1_isCycle 93 = .ok (.iload 4, 2) := dk_21 4 (dk_at dksX1_isCycle_4 0 rfl rfl)
theorem dX1_isCycle_95 : decode cX1_isCycle 95 = .ok (.invokevirtual 42, 3) := dk_182 0 42 (dk_at dksX1_isCycle_4 2 rfl rfl)
theorem dX1_isCycle_98 : decode cX1_isCycle 98 = .ok (.ireturn, 1) := dk_172 (dk_at dksX1_isCycle_4 5 rfl rfl)
abbrev cX1_backNow : ByteArray := prog_1_method_50_code
def yX1_backNow : MethodName := ⟨RX1, "backNow", "(LHaltingale$Table;)I"⟩
def dkwX1_backNow_2 : List UInt8 := [172]
abbrev dktX1_backNow_2 : List UInt8 := dkwX1_backNow_2 ++ []
def dkwX1_backNow_1 : List UInt8 := [2, 159, 0, 22, 44, 180, 0, 39, 27, 160, 0, 14, 44, 182, 1, 49, 154, 0, 7, 27, 167, 0, 4, 2]
abbrev dktX1_backNow_1 : List UInt8 := dkwX1_backNow_1 ++ dktX1_backNow_2
def dkwX1_backNow_0 : List UInt8 := [42, 184, 1, 151, 60, 187, 0, 3, 89, 42, 3, 27, 184, 0, 36, 183, 0, 5, 27, 182, 0, 9, 77, 27]
abbrev dktX1_backNow_0 : List UInt8 := dkwX1_backNow_0 ++ dktX1_backNow_1
theorem dksX1_backNow_0 : cX1_backNow.data.toList.drop 0 = dktX1_backNow_0 := by decide +kernel
theorem dksX1_backNow_1 : cX1_backNow.data.toList.drop 24 = dktX1_backNow_1 := dk_seg dksX1_backNow_0 24 rfl rfl
theorem dksX1_backNow_2 : cX1_backNow.data.toList.drop 48 = dktX1_backNow_2 := dk_seg dksX1_backNow_1 24 rfl rfl
theorem dX1_backNow_0 : decode cX1_backNow 0 = .ok (.aload_n 0, 1) := dk_42 (dk_at dksX1_backNow_0 0 rfl rfl)
theorem dX1_backNow_1 : decode cX1_backNow 1 = .ok (.invokestatic 407, 3) := dk_184 1 151 (dk_at dksX1_backNow_0 1 rfl rfl)
theorem dX1_backNow_4 : decode cX1_backNow 4 = .ok (.istore_n 1, 1) := dk_60 (dk_at dksX1_backNow_0 4 rfl rfl)
theorem dX1_backNow_5 : decode cX1_backNow 5 = .ok (.new 3, 3) := dk_187 0 3 (dk_at dksX1_backNow_0 5 rfl rfl)
theorem dX1_backNow_8 : decode cX1_backNow 8 = .ok (.dup, 1) := dk_89 (dk_at dksX1_backNow_0 8 rfl rfl)
theorem dX1_backNow_9 : decode cX1_backNow 9 = .ok (.aload_n 0, 1) := dk_42 (dk_at dksX1_backNow_0 9 rfl rfl)
theorem dX1_backNow_10 : decode cX1_backNow 10 = .ok (.iconst 0, 1) := dk_3 (dk_at dksX1_backNow_0 10 rfl rfl)
theorem dX1_backNow_11 : decode cX1_backNow 11 = .ok (.iload_n 1, 1) := dk_27 (dk_at dksX1_backNow_0 11 rfl rfl)
theorem dX1_backNow_12 : decode cX1_backNow 12 = .ok (.invokestatic 36, 3) := dk_184 0 36 (dk_at dksX1_backNow_0 12 rfl rfl)
theorem dX1_backNow_15 : decode cX1_backNow 15 = .ok (.invokespecial 5, 3) := dk_183 0 5 (dk_at dksX1_backNow_0 15 rfl rfl)
theorem dX1_backNow_18 : decode cX1_backNow 18 = .ok (.iload_n 1, 1) := dk_27 (dk_at dksX1_backNow_0 18 rfl rfl)
theorem dX1_backNow_19 : decode cX1_backNow 19 = .ok (.invokevirtual 9, 3) := dk_182 0 9 (dk_at dksX1_backNow_0 19 rfl rfl)
theorem dX1_backNow_22 : decode cX1_backNow 22 = .ok (.astore_n 2, 1) := dk_77 (dk_at dksX1_backNow_0 22 rfl rfl)
theorem dX1_backNow_23 : decode cX1_backNow 23 = .ok (.iload_n 1, 1) := dk_27 (dk_at dksX1_backNow_0 23 rfl rfl)
theorem dX1_backNow_24 : decode cX1_backNow 24 = .ok (.iconst (-1), 1) := dk_2 (dk_at dksX1_backNow_1 0 rfl rfl)
theorem dX1_backNow_25 : decode cX1_backNow 25 = .ok (.if_icmp .eq 22, 3) := dk_159 0 22 (dk_at dksX1_backNow_1 1 rfl rfl)
theorem dX1_backNow_28 : decode cX1_backNow 28 = .ok (.aload_n 2, 1) := dk_44 (dk_at dksX1_backNow_1 4 rfl rfl)
theorem dX1_backNow_29 : decode cX1_backNow 29 = .ok (.getfield 39, 3) := dk_180 0 39 (dk_at dksX1_backNow_1 5 rfl rfl)
theorem dX1_backNow_32 : decode cX1_backNow 32 = .ok (.iload_n 1, 1) := dk_27 (dk_at dksX1_backNow_1 8 rfl rfl)
theorem dX1_backNow_33 : decode cX1_backNow 33 = .ok (.if_icmp .ne 14, 3) := dk_160 0 14 (dk_at dksX1_backNow_1 9 rfl rfl)
theorem dX1_backNow_36 : decode cX1_backNow 36 = .ok (.aload_n 2, 1) := dk_44 (dk_at dksX1_backNow_1 12 rfl rfl)
theorem dX1_backNow_37 : decode cX1_backNow 37 = .ok (.invokevirtual 305, 3) := dk_182 1 49 (dk_at dksX1_backNow_1 13 rfl rfl)
theorem dX1_backNow_40 : decode cX1_backNow 40 = .ok (.ifCond .ne 7, 3) := dk_154 0 7 (dk_at dksX1_backNow_1 16 rfl rfl)
theorem dX1_backNow_43 : decode cX1_backNow 43 = .ok (.iload_n 1, 1) := dk_27 (dk_at dksX1_backNow_1 19 rfl rfl)
theorem dX1_backNow_44 : decode cX1_backNow 44 = .ok (.goto 4, 3) := dk_167 0 4 (dk_at dksX1_backNow_1 20 rfl rfl)
theorem dX1_backNow_47 : decode cX1_backNow 47 = .ok (.iconst (-1), 1) := dk_2 (dk_at dksX1_backNow_1 23 rfl rfl)
theorem dX1_backNow_48 : decode cX1_backNow 48 = .ok (.ireturn, 1) := dk_172 (dk_at dksX1_backNow_2 0 rfl rfl)
abbrev cX1_emptyDepth : ByteArray := prog_1_method_7_code
def yX1_emptyDepth : MethodName := ⟨RX1, "emptyDepth", "(LHaltingale$Table;)I"⟩
def dkwX1_emptyDepth_2 : List UInt8 := [132, 2, 1, 167, 255, 217, 2, 172]
abbrev dktX1_emptyDepth_2 : List UInt8 := dkwX1_emptyDepth_2 ++ []
def dkwX1_emptyDepth_1 : List UInt8 := [185, 0, 56, 1, 0, 16, 24, 164, 0, 5, 2, 172, 43, 185, 0, 124, 1, 0, 153, 0, 5, 28, 172]
abbrev dktX1_emptyDepth_1 : List UInt8 := dkwX1_emptyDepth_1 ++ dktX1_emptyDepth_2
def dkwX1_emptyDepth_0 : List UInt8 := [42, 184, 0, 117, 76, 4, 61, 28, 16, 6, 163, 0, 39, 42, 43, 184, 0, 121, 76, 43]
abbrev dktX1_emptyDepth_0 : List UInt8 := dkwX1_emptyDepth_0 ++ dktX1_emptyDepth_1
theorem dksX1_emptyDepth_0 : cX1_emptyDepth.data.toList.drop 0 = dktX1_emptyDepth_0 := by decide +kernel
theorem dksX1_emptyDepth_1 : cX1_emptyDepth.data.toList.drop 20 = dktX1_emptyDepth_1 := dk_seg dksX1_emptyDepth_0 20 rfl rfl
theorem dksX1_emptyDepth_2 : cX1_emptyDepth.data.toList.drop 43 = dktX1_emptyDepth_2 := dk_seg dksX1_emptyDepth_1 23 rfl rfl
theorem dX1_emptyDepth_0 : decode cX1_emptyDepth 0 = .ok (.aload_n 0, 1) := dk_42 (dk_at dksX1_emptyDepth_0 0 rfl rfl)
theorem dX1_emptyDepth_1 : decode cX1_emptyDepth 1 = .ok (.invokestatic 117, 3) := dk_184 0 117 (dk_at dksX1_emptyDepth_0 1 rfl rfl)
theorem dX1_emptyDepth_4 : decode cX1_emptyDepth 4 = .ok (.astore_n 1, 1) := dk_76 (dk_at dksX1_emptyDepth_0 4 rfl rfl)
theorem dX1_emptyDepth_5 : decode cX1_emptyDepth 5 = .ok (.iconst 1, 1) := dk_4 (dk_at dksX1_emptyDepth_0 5 rfl rfl)
theorem dX1_emptyDepth_6 : decode cX1_emptyDepth 6 = .ok (.istore_n 2, 1) := dk_61 (dk_at dksX1_emptyDepth_0 6 rfl rfl)
theorem dX1_emptyDepth_7 : decode cX1_emptyDepth 7 = .ok (.iload_n 2, 1) := dk_28 (dk_at dksX1_emptyDepth_0 7 rfl rfl)
theorem dX1_emptyDepth_8 : decode cX1_emptyDepth 8 = .ok (.bipush 6, 2) := dk_16 6 (dk_at dksX1_emptyDepth_0 8 rfl rfl)
theorem dX1_emptyDepth_10 : decode cX1_emptyDepth 10 = .ok (.if_icmp .gt 39, 3) := dk_163 0 39 (dk_at dksX1_emptyDepth_0 10 rfl rfl)
theorem dX1_emptyDepth_13 : decode cX1_emptyDepth 13 = .ok (.aload_n 0, 1) := dk_42 (dk_at dksX1_emptyDepth_0 13 rfl rfl)
theorem dX1_emptyDepth_14 : decode cX1_emptyDepth 14 = .ok (.aload_n 1, 1) := dk_43 (dk_at dksX1_emptyDepth_0 14 rfl rfl)
theorem dX1_emptyDepth_15 : decode cX1_emptyDepth 15 = .ok (.invokestatic 121, 3) := dk_184 0 121 (dk_at dksX1_emptyDepth_0 15 rfl rfl)
theorem dX1_emptyDepth_18 : decode cX1_emptyDepth 18 = .ok (.astore_n 1, 1) := dk_76 (dk_at dksX1_emptyDepth_0 18 rfl rfl)
theorem dX1_emptyDepth_19 : decode cX1_emptyDepth 19 = .ok (.aload_n 1, 1) := dk_43 (dk_at dksX1_emptyDepth_0 19 rfl rfl)
theorem dX1_emptyDepth_20 : decode cX1_emptyDepth 20 = .ok (.invokeinterface 56 1, 5) := by decide +kernel
theorem dX1_emptyDepth_25 : decode cX1_emptyDepth 25 = .ok (.bipush 24, 2) := dk_16 24 (dk_at dksX1_emptyDepth_1 5 rfl rfl)
theorem dX1_emptyDepth_27 : decode cX1_emptyDepth 27 = .ok (.if_icmp .le 5, 3) := dk_164 0 5 (dk_at dksX1_emptyDepth_1 7 rfl rfl)
theorem dX1_emptyDepth_30 : decode cX1_emptyDepth 30 = .ok (.iconst (-1), 1) := dk_2 (dk_at dksX1_emptyDepth_1 10 rfl rfl)
theorem dX1_emptyDepth_31 : decode cX1_emptyDepth 31 = .ok (.ireturn, 1) := dk_172 (dk_at dksX1_emptyDepth_1 11 rfl rfl)
theorem dX1_emptyDepth_32 : decode cX1_emptyDepth 32 = .ok (.aload_n 1, 1) := dk_43 (dk_at dksX1_emptyDepth_1 12 rfl rfl)
theorem dX1_emptyDepth_33 : decode cX1_emptyDepth 33 = .ok (.invokeinterface 124 1, 5) := by decide +kernel
theorem dX1_emptyDepth_38 : decode cX1_emptyDepth 38 = .ok (.ifCond .eq 5, 3) := dk_153 0 5 (dk_at dksX1_emptyDepth_1 18 rfl rfl)
theorem dX1_emptyDepth_41 : decode cX1_emptyDepth 41 = .ok (.iload_n 2, 1) := dk_28 (dk_at dksX1_emptyDepth_1 21 rfl rfl)
theorem dX1_emptyDepth_42 : decode cX1_emptyDepth 42 = .ok (.ireturn, 1) := dk_172 (dk_at dksX1_emptyDepth_1 22 rfl rfl)
theorem dX1_emptyDepth_43 : decode cX1_emptyDepth 43 = .ok (.iinc 2 1, 3) := dk_132 2 1 (dk_at dksX1_emptyDepth_2 0 rfl rfl)
theorem dX1_emptyDepth_46 : decode cX1_emptyDepth 46 = .ok (.goto (-39), 3) := dk_167 255 217 (dk_at dksX1_emptyDepth_2 3 rfl rfl)
theorem dX1_emptyDepth_49 : decode cX1_emptyDepth 49 = .ok (.iconst (-1), 1) := dk_2 (dk_at dksX1_emptyDepth_2 6 rfl rfl)
theorem dX1_emptyDepth_50 : decode cX1_emptyDepth 50 = .ok (.ireturn, 1) := dk_172 (dk_at dksX1_emptyDepth_2 7 rfl rfl)
abbrev cX1_ends : ByteArray := prog_1_method_5_code
def yX1_ends : MethodName := ⟨RX1, "ends", "(LHaltingale$Table;)Ljava/util/List;"⟩
def dkwX1_ends_3 : List UInt8 := [167, 255, 198, 43, 176]
abbrev dktX1_ends_3 : List UInt8 := dkwX1_ends_3 ++ []
def dkwX1_ends_2 : List UInt8 := [180, 0, 87, 3, 184, 0, 91, 28, 5, 112, 79, 43, 45, 185, 0, 50, 2, 0, 87, 132, 2, 1]
abbrev dktX1_ends_2 : List UInt8 := dkwX1_ends_2 ++ dktX1_ends_3
def dkwX1_ends_1 : List UInt8 := [28, 5, 112, 182, 0, 78, 153, 0, 35, 187, 0, 82, 89, 28, 5, 108, 3, 183, 0, 84, 78, 45]
abbrev dktX1_ends_1 : List UInt8 := dkwX1_ends_1 ++ dktX1_ends_2
def dkwX1_ends_0 : List UInt8 := [187, 0, 46, 89, 183, 0, 48, 76, 3, 61, 28, 5, 42, 180, 0, 73, 104, 162, 0, 54, 42, 28, 5, 108]
abbrev dktX1_ends_0 : List UInt8 := dkwX1_ends_0 ++ dktX1_ends_1
theorem dksX1_ends_0 : cX1_ends.data.toList.drop 0 = dktX1_ends_0 := by decide +kernel
theorem dksX1_ends_1 : cX1_ends.data.toList.drop 24 = dktX1_ends_1 := dk_seg dksX1_ends_0 24 rfl rfl
theorem dksX1_ends_2 : cX1_ends.data.toList.drop 46 = dktX1_ends_2 := dk_seg dksX1_ends_1 22 rfl rfl
theorem dksX1_ends_3 : cX1_ends.data.toList.drop 68 = dktX1_ends_3 := dk_seg dksX1_ends_2 22 rfl rfl
theorem dX1_ends_0 : decode cX1_ends 0 = .ok (.new 46, 3) := dk_187 0 46 (dk_at dksX1_ends_0 0 rfl rfl)
theorem dX1_ends_3 : decode cX1_ends 3 = .ok (.dup, 1) := dk_89 (dk_at dksX1_ends_0 3 rfl rfl)
theorem dX1_ends_4 : decode cX1_ends 4 = .ok (.invokespecial 48, 3) := dk_183 0 48 (dk_at dksX1_ends_0 4 rfl rfl)
theorem dX1_ends_7 : decode cX1_ends 7 = .ok (.astore_n 1, 1) := dk_76 (dk_at dksX1_ends_0 7 rfl rfl)
theorem dX1_ends_8 : decode cX1_ends 8 = .ok (.iconst 0, 1) := dk_3 (dk_at dksX1_ends_0 8 rfl rfl)
theorem dX1_ends_9 : decode cX1_ends 9 = .ok (.istore_n 2, 1) := dk_61 (dk_at dksX1_ends_0 9 rfl rfl)
theorem dX1_ends_10 : decode cX1_ends 10 = .ok (.iload_n 2, 1) := dk_28 (dk_at dksX1_ends_0 10 rfl rfl)
theorem dX1_ends_11 : decode cX1_ends 11 = .ok (.iconst 2, 1) := dk_5 (dk_at dksX1_ends_0 11 rfl rfl)
theorem dX1_ends_12 : decode cX1_ends 12 = .ok (.aload_n 0, 1) := dk_42 (dk_at dksX1_ends_0 12 rfl rfl)
theorem dX1_ends_13 : decode cX1_ends 13 = .ok (.getfield 73, 3) := dk_180 0 73 (dk_at dksX1_ends_0 13 rfl rfl)
theorem dX1_ends_16 : decode cX1_ends 16 = .ok (.imul, 1) := dk_104 (dk_at dksX1_ends_0 16 rfl rfl)
theorem dX1_ends_17 : decode cX1_ends 17 = .ok (.if_icmp .ge 54, 3) := dk_162 0 54 (dk_at dksX1_ends_0 17 rfl rfl)
theorem dX1_ends_20 : decode cX1_ends 20 = .ok (.aload_n 0, 1) := dk_42 (dk_at dksX1_ends_0 20 rfl rfl)
theorem dX1_ends_21 : decode cX1_ends 21 = .ok (.iload_n 2, 1) := dk_28 (dk_at dksX1_ends_0 21 rfl rfl)
theorem dX1_ends_22 : decode cX1_ends 22 = .ok (.iconst 2, 1) := dk_5 (dk_at dksX1_ends_0 22 rfl rfl)
theorem dX1_ends_23 : decode cX1_ends 23 = .ok (.idiv, 1) := dk_108 (dk_at dksX1_ends_0 23 rfl rfl)
theorem dX1_ends_24 : decode cX1_ends 24 = .ok (.iload_n 2, 1) := dk_28 (dk_at dksX1_ends_1 0 rfl rfl)
theorem dX1_ends_25 : decode cX1_ends 25 = .ok (.iconst 2, 1) := dk_5 (dk_at dksX1_ends_1 1 rfl rfl)
theorem dX1_ends_26 : decode cX1_ends 26 = .ok (.irem, 1) := dk_112 (dk_at dksX1_ends_1 2 rfl rfl)
theorem dX1_ends_27 : decode cX1_ends 27 = .ok (.invokevirtual 78, 3) := dk_182 0 78 (dk_at dksX1_ends_1 3 rfl rfl)
theorem dX1_ends_30 : decode cX1_ends 30 = .ok (.ifCond .eq 35, 3) := dk_153 0 35 (dk_at dksX1_ends_1 6 rfl rfl)
theorem dX1_ends_33 : decode cX1_ends 33 = .ok (.new 82, 3) := dk_187 0 82 (dk_at dksX1_ends_1 9 rfl rfl)
theorem dX1_ends_36 : decode cX1_ends 36 = .ok (.dup, 1) := dk_89 (dk_at dksX1_ends_1 12 rfl rfl)
theorem dX1_ends_37 : decode cX1_ends 37 = .ok (.iload_n 2, 1) := dk_28 (dk_at dksX1_ends_1 13 rfl rfl)
theorem dX1_ends_38 : decode cX1_ends 38 = .ok (.iconst 2, 1) := dk_5 (dk_at dksX1_ends_1 14 rfl rfl)
theorem dX1_ends_39 : decode cX1_ends 39 = .ok (.idiv, 1) := dk_108 (dk_at dksX1_ends_1 15 rfl rfl)
theorem dX1_ends_40 : decode cX1_ends 40 = .ok (.iconst 0, 1) := dk_3 (dk_at dksX1_ends_1 16 rfl rfl)
theorem dX1_ends_41 : decode cX1_ends 41 = .ok (.invokespecial 84, 3) := dk_183 0 84 (dk_at dksX1_ends_1 17 rfl rfl)
theorem dX1_ends_44 : decode cX1_ends 44 = .ok (.astore_n 3, 1) := dk_78 (dk_at dksX1_ends_1 20 rfl rfl)
theorem dX1_ends_45 : decode cX1_ends 45 = .ok (.aload_n 3, 1) := dk_45 (dk_at dksX1_ends_1 21 rfl rfl)
theorem dX1_ends_46 : decode cX1_ends 46 = .ok (.getfield 87, 3) := dk_180 0 87 (dk_at dksX1_ends_2 0 rfl rfl)
theorem dX1_ends_49 : decode cX1_ends 49 = .ok (.iconst 0, 1) := dk_3 (dk_at dksX1_ends_2 3 rfl rfl)
theorem dX1_ends_50 : decode cX1_ends 50 = .ok (.invokestatic 91, 3) := dk_184 0 91 (dk_at dksX1_ends_2 4 rfl rfl)
theorem dX1_ends_53 : decode cX1_ends 53 = .ok (.iload_n 2, 1) := dk_28 (dk_at dksX1_ends_2 7 rfl rfl)
theorem dX1_ends_54 : decode cX1_ends 54 = .ok (.iconst 2, 1) := dk_5 (dk_at dksX1_ends_2 8 rfl rfl)
theorem dX1_ends_55 : decode cX1_ends 55 = .ok (.irem, 1) := dk_112 (dk_at dksX1_ends_2 9 rfl rfl)
theorem dX1_ends_56 : decode cX1_ends 56 = .ok (.iastore, 1) := dk_79 (dk_at dksX1_ends_2 10 rfl rfl)
theorem dX1_ends_57 : decode cX1_ends 57 = .ok (.aload_n 1, 1) := dk_43 (dk_at dksX1_ends_2 11 rfl rfl)
theorem dX1_ends_58 : decode cX1_ends 58 = .ok (.aload_n 3, 1) := dk_45 (dk_at dksX1_ends_2 12 rfl rfl)
theorem dX1_ends_59 : decode cX1_ends 59 = .ok (.invokeinterface 50 2, 5) := by decide +kernel
theorem dX1_ends_64 : decode cX1_ends 64 = .ok (.pop, 1) := dk_87 (dk_at dksX1_ends_2 18 rfl rfl)
theorem dX1_ends_65 : decode cX1_ends 65 = .ok (.iinc 2 1, 3) := dk_132 2 1 (dk_at dksX1_ends_2 19 rfl rfl)
theorem dX1_ends_68 : decode cX1_ends 68 = .ok (.goto (-58), 3) := dk_167 255 198 (dk_at dksX1_ends_3 0 rfl rfl)
theorem dX1_ends_71 : decode cX1_ends 71 = .ok (.aload_n 1, 1) := dk_43 (dk_at dksX1_ends_3 3 rfl rfl)
theorem dX1_ends_72 : decode cX1_ends 72 = .ok (.areturn, 1) := dk_176 (dk_at dksX1_ends_3 4 rfl rfl)
abbrev cX1_ahead : ByteArray := prog_1_method_6_code
def yX1_ahead : MethodName := ⟨RX1, "ahead", "(LHaltingale$Table;Ljava/util/List;)Ljava/util/List;"⟩
def dkwX1_ahead_5 : List UInt8 := [132, 4, 1, 167, 255, 160, 132, 3, 1, 167, 255, 141, 44, 176]
abbrev dktX1_ahead_5 : List UInt8 := dkwX1_ahead_5 ++ []
def dkwX1_ahead_4 : List UInt8 := [25, 6, 182, 0, 99, 153, 0, 18, 44, 25, 6, 182, 0, 104, 192, 0, 82, 185, 0, 50, 2, 0, 87]
abbrev dktX1_ahead_4 : List UInt8 := dkwX1_ahead_4 ++ dktX1_ahead_5
def dkwX1_ahead_3 : List UInt8 := [21, 4, 5, 112, 25, 5, 182, 0, 104, 192, 0, 107, 182, 0, 109, 167, 0, 6, 184, 0, 113, 58, 6]
abbrev dktX1_ahead_3 : List UInt8 := dkwX1_ahead_3 ++ dktX1_ahead_4
def dkwX1_ahead_2 : List UInt8 := [58, 5, 25, 5, 182, 0, 99, 153, 0, 35, 43, 29, 185, 0, 60, 2, 0, 192, 0, 82, 21, 4, 5, 108]
abbrev dktX1_ahead_2 : List UInt8 := dkwX1_ahead_2 ++ dktX1_ahead_3
def dkwX1_ahead_1 : List UInt8 := [21, 4, 5, 42, 180, 0, 73, 104, 162, 0, 91, 42, 21, 4, 5, 108, 21, 4, 5, 112, 182, 0, 95]
abbrev dktX1_ahead_1 : List UInt8 := dkwX1_ahead_1 ++ dktX1_ahead_2
def dkwX1_ahead_0 : List UInt8 := [187, 0, 46, 89, 183, 0, 48, 77, 3, 62, 29, 43, 185, 0, 56, 1, 0, 162, 0, 111, 3, 54, 4]
abbrev dktX1_ahead_0 : List UInt8 := dkwX1_ahead_0 ++ dktX1_ahead_1
theorem dksX1_ahead_0 : cX1_ahead.data.toList.drop 0 = dktX1_ahead_0 := by decide +kernel
theorem dksX1_ahead_1 : cX1_ahead.data.toList.drop 23 = dktX1_ahead_1 := dk_seg dksX1_ahead_0 23 rfl rfl
theorem dksX1_ahead_2 : cX1_ahead.data.toList.drop 46 = dktX1_ahead_2 := dk_seg dksX1_ahead_1 23 rfl rfl
theorem dksX1_ahead_3 : cX1_ahead.data.toList.drop 70 = dktX1_ahead_3 := dk_seg dksX1_ahead_2 24 rfl rfl
theorem dksX1_ahead_4 : cX1_ahead.data.toList.drop 93 = dktX1_ahead_4 := dk_seg dksX1_ahead_3 23 rfl rfl
theorem dksX1_ahead_5 : cX1_ahead.data.toList.drop 116 = dktX1_ahead_5 := dk_seg dksX1_ahead_4 23 rfl rfl
theorem dX1_ahead_0 : decode cX1_ahead 0 = .ok (.new 46, 3) := dk_187 0 46 (dk_at dksX1_ahead_0 0 rfl rfl)
theorem dX1_ahead_3 : decode cX1_ahead 3 = .ok (.dup, 1) := dk_89 (dk_at dksX1_ahead_0 3 rfl rfl)
theorem dX1_ahead_4 : decode cX1_ahead 4 = .ok (.invokespecial 48, 3) := dk_183 0 48 (dk_at dksX1_ahead_0 4 rfl rfl)
theorem dX1_ahead_7 : decode cX1_ahead 7 = .ok (.astore_n 2, 1) := dk_77 (dk_at dksX1_ahead_0 7 rfl rfl)
theorem dX1_ahead_8 : decode cX1_ahead 8 = .ok (.iconst 0, 1) := dk_3 (dk_at dksX1_ahead_0 8 rfl rfl)
theorem dX1_ahead_9 : decode cX1_ahead 9 = .ok (.istore_n 3, 1) := dk_62 (dk_at dksX1_ahead_0 9 rfl rfl)
theorem dX1_ahead_10 : decode cX1_ahead 10 = .ok (.iload_n 3, 1) := dk_29 (dk_at dksX1_ahead_0 10 rfl rfl)
theorem dX1_ahead_11 : decode cX1_ahead 11 = .ok (.aload_n 1, 1) := dk_43 (dk_at dksX1_ahead_0 11 rfl rfl)
theorem dX1_ahead_12 : decode cX1_ahead 12 = .ok (.invokeinterface 56 1, 5) := by decide +kernel
theorem dX1_ahead_17 : decode cX1_ahead 17 = .ok (.if_icmp .ge 111, 3) := dk_162 0 111 (dk_at dksX1_ahead_0 17 rfl rfl)
theorem dX1_ahead_20 : decode cX1_ahead 20 = .ok (.iconst 0, 1) := dk_3 (dk_at dksX1_ahead_0 20 rfl rfl)
theorem dX1_ahead_21 : decode cX1_ahead 21 = .ok (.istore 4, 2) := dk_54 4 (dk_at dksX1_ahead_0 21 rfl rfl)
theorem dX1_ahead_23 : decode cX1_ahead 23 = .ok (.iload 4, 2) := dk_21 4 (dk_at dksX1_ahead_1 0 rfl rfl)
theorem dX1_ahead_25 : decode cX1_ahead 25 = .ok (.iconst 2, 1) := dk_5 (dk_at dksX1_ahead_1 2 rfl rfl)
theorem dX1_ahead_26 : decode cX1_ahead 26 = .ok (.aload_n 0, 1) := dk_42 (dk_at dksX1_ahead_1 3 rfl rfl)
theorem dX1_ahead_27 : decode cX1_ahead 27 = .ok (.getfield 73, 3) := dk_180 0 73 (dk_at dksX1_ahead_1 4 rfl rfl)
theorem dX1_ahead_30 : decode cX1_ahead 30 = .ok (.imul, 1) := dk_104 (dk_at dksX1_ahead_1 7 rfl rfl)
theorem dX1_ahead_31 : decode cX1_ahead 31 = .ok (.if_icmp .ge 91, 3) := dk_162 0 91 (dk_at dksX1_ahead_1 8 rfl rfl)
theorem dX1_ahead_34 : decode cX1_ahead 34 = .ok (.aload_n 0, 1) := dk_42 (dk_at dksX1_ahead_1 11 rfl rfl)
theorem dX1_ahead_35 : decode cX1_ahead 35 = .ok (.iload 4, 2) := dk_21 4 (dk_at dksX1_ahead_1 12 rfl rfl)
theorem dX1_ahead_37 : decode cX1_ahead 37 = .ok (.iconst 2, 1) := dk_5 (dk_at dksX1_ahead_1 14 rfl rfl)
theorem dX1_ahead_38 : decode cX1_ahead 38 = .ok (.idiv, 1) := dk_108 (dk_at dksX1_ahead_1 15 rfl rfl)
theorem dX1_ahead_39 : decode cX1_ahead 39 = .ok (.iload 4, 2) := dk_21 4 (dk_at dksX1_ahead_1 16 rfl rfl)
theorem dX1_ahead_41 : decode cX1_ahead 41 = .ok (.iconst 2, 1) := dk_5 (dk_at dksX1_ahead_1 18 rfl rfl)
theorem dX1_ahead_42 : decode cX1_ahead 42 = .ok (.irem, 1) := dk_112 (dk_at dksX1_ahead_1 19 rfl rfl)
theorem dX1_ahead_43 : decode cX1_ahead 43 = .ok (.invokevirtual 95, 3) := dk_182 0 95 (dk_at dksX1_ahead_1 20 rfl rfl)
theorem dX1_ahead_46 : decode cX1_ahead 46 = .ok (.astore 5, 2) := dk_58 5 (dk_at dksX1_ahead_2 0 rfl rfl)
theorem dX1_ahead_48 : decode cX1_ahead 48 = .ok (.aload 5, 2) := dk_25 5 (dk_at dksX1_ahead_2 2 rfl rfl)
theorem dX1_ahead_50 : decode cX1_ahead 50 = .ok (.invokevirtual 99, 3) := dk_182 0 99 (dk_at dksX1_ahead_2 4 rfl rfl)
theorem dX1_ahead_53 : decode cX1_ahead 53 = .ok (.ifCond .eq 35, 3) := dk_153 0 35 (dk_at dksX1_ahead_2 7 rfl rfl)
theorem dX1_ahead_56 : decode cX1_ahead 56 = .ok (.aload_n 1, 1) := dk_43 (dk_at dksX1_ahead_2 10 rfl rfl)
theorem dX1_ahead_57 : decode cX1_ahead 57 = .ok (.iload_n 3, 1) := dk_29 (dk_at dksX1_ahead_2 11 rfl rfl)
theorem dX1_ahead_58 : decode cX1_ahead 58 = .ok (.invokeinterface 60 2, 5) := by decide +kernel
theorem dX1_ahead_63 : decode cX1_ahead 63 = .ok (.checkcast 82, 3) := dk_192 0 82 (dk_at dksX1_ahead_2 17 rfl rfl)
theorem dX1_ahead_66 : decode cX1_ahead 66 = .ok (.iload 4, 2) := dk_21 4 (dk_at dksX1_ahead_2 20 rfl rfl)
theorem dX1_ahead_68 : decode cX1_ahead 68 = .ok (.iconst 2, 1) := dk_5 (dk_at dksX1_ahead_2 22 rfl rfl)
theorem dX1_ahead_69 : decode cX1_ahead 69 = .ok (.idiv, 1) := dk_108 (dk_at dksX1_ahead_2 23 rfl rfl)
theorem dX1_ahead_70 : decode cX1_ahead 70 = .ok (.iload 4, 2) := dk_21 4 (dk_at dksX1_ahead_3 0 rfl rfl)
theorem dX1_ahead_72 : decode cX1_ahead 72 = .ok (.iconst 2, 1) := dk_5 (dk_at dksX1_ahead_3 2 rfl rfl)
theorem dX1_ahead_73 : decode cX1_ahead 73 = .ok (.irem, 1) := dk_112 (dk_at dksX1_ahead_3 3 rfl rfl)
theorem dX1_ahead_74 : decode cX1_ahead 74 = .ok (.aload 5, 2) := dk_25 5 (dk_at dksX1_ahead_3 4 rfl rfl)
theorem dX1_ahead_76 : decode cX1_ahead 76 = .ok (.invokevirtual 104, 3) := dk_182 0 104 (dk_at dksX1_ahead_3 6 rfl rfl)
theorem dX1_ahead_79 : decode cX1_ahead 79 = .ok (.checkcast 107, 3) := dk_192 0 107 (dk_at dksX1_ahead_3 9 rfl rfl)
theorem dX1_ahead_82 : decode cX1_ahead 82 = .ok (.invokevirtual 109, 3) := dk_182 0 109 (dk_at dksX1_ahead_3 12 rfl rfl)
theorem dX1_ahead_85 : decode cX1_ahead 85 = .ok (.goto 6, 3) := dk_167 0 6 (dk_at dksX1_ahead_3 15 rfl rfl)
theorem dX1_ahead_88 : decode cX1_ahead 88 = .ok (.invokestatic 113, 3) := dk_184 0 113 (dk_at dksX1_ahead_3 18 rfl rfl)
theorem dX1_ahead_91 : decode cX1_ahead 91 = .ok (.astore 6, 2) := dk_58 6 (dk_at dksX1_ahead_3 21 rfl rfl)
theorem dX1_ahead_93 : decode cX1_ahead 93 = .ok (.aload 6, 2) := dk_25 6 (dk_at dksX1_ahead_4 0 rfl rfl)
theorem dX1_ahead_95 : decode cX1_ahead 95 = .ok (.invokevirtual 99, 3) := dk_182 0 99 (dk_at dksX1_ahead_4 2 rfl rfl)
theorem dX1_ahead_98 : decode cX1_ahead 98 = .ok (.ifCond .eq 18, 3) := dk_153 0 18 (dk_at dksX1_ahead_4 5 rfl rfl)
theorem dX1_ahead_101 : decode cX1_ahead 101 = .ok (.aload_n 2, 1) := dk_44 (dk_at dksX1_ahead_4 8 rfl rfl)
theorem dX1_ahead_102 : decode cX1_ahead 102 = .ok (.aload 6, 2) := dk_25 6 (dk_at dksX1_ahead_4 9 rfl rfl)
theorem dX1_ahead_104 : decode cX1_ahead 104 = .ok (.invokevirtual 104, 3) := dk_182 0 104 (dk_at dksX1_ahead_4 11 rfl rfl)
theorem dX1_ahead_107 : decode cX1_ahead 107 = .ok (.checkcast 82, 3) := dk_192 0 82 (dk_at dksX1_ahead_4 14 rfl rfl)
theorem dX1_ahead_110 : decode cX1_ahead 110 = .ok (.invokeinterface 50 2, 5) := by decide +kernel
theorem dX1_ahead_115 : decode cX1_ahead 115 = .ok (.pop, 1) := dk_87 (dk_at dksX1_ahead_4 22 rfl rfl)
theorem dX1_ahead_116 : decode cX1_ahead 116 = .ok (.iinc 4 1, 3) := dk_132 4 1 (dk_at dksX1_ahead_5 0 rfl rfl)
theorem dX1_ahead_119 : decode cX1_ahead 119 = .ok (.goto (-96), 3) := dk_167 255 160 (dk_at dksX1_ahead_5 3 rfl rfl)
theorem dX1_ahead_122 : decode cX1_ahead 122 = .ok (.iinc 3 1, 3) := dk_132 3 1 (dk_at dksX1_ahead_5 6 rfl rfl)
theorem dX1_ahead_125 : decode cX1_ahead 125 = .ok (.goto (-115), 3) := dk_167 255 141 (dk_at dksX1_ahead_5 9 rfl rfl)
theorem dX1_ahead_128 : decode cX1_ahead 128 = .ok (.aload_n 2, 1) := dk_44 (dk_at dksX1_ahead_5 12 rfl rfl)
theorem dX1_ahead_129 : decode cX1_ahead 129 = .ok (.areturn, 1) := dk_176 (dk_at dksX1_ahead_5 13 rfl rfl)
abbrev cX1_taggedNow : ByteArray := prog_1_method_43_code
def yX1_taggedNow : MethodName := ⟨RX1, "taggedNow", "(LHaltingale$Tag;II)I"⟩
def dkwX1_taggedNow_1 : List UInt8 := [62, 29, 184, 1, 136, 16, 20, 164, 0, 5, 2, 172, 132, 4, 1, 167, 255, 222, 29, 172]
abbrev dktX1_taggedNow_1 : List UInt8 := dkwX1_taggedNow_1 ++ []
def dkwX1_taggedNow_0 : List UInt8 := [27, 62, 3, 54, 4, 21, 4, 28, 162, 0, 34, 42, 29, 182, 1, 129, 153, 0, 26, 42, 29, 182, 1, 133]
abbrev dktX1_taggedNow_0 : List UInt8 := dkwX1_taggedNow_0 ++ dktX1_taggedNow_1
theorem dksX1_taggedNow_0 : cX1_taggedNow.data.toList.drop 0 = dktX1_taggedNow_0 := by decide +kernel
theorem dksX1_taggedNow_1 : cX1_taggedNow.data.toList.drop 24 = dktX1_taggedNow_1 := dk_seg dksX1_taggedNow_0 24 rfl rfl
theorem dX1_taggedNow_0 : decode cX1_taggedNow 0 = .ok (.iload_n 1, 1) := dk_27 (dk_at dksX1_taggedNow_0 0 rfl rfl)
theorem dX1_taggedNow_1 : decode cX1_taggedNow 1 = .ok (.istore_n 3, 1) := dk_62 (dk_at dksX1_taggedNow_0 1 rfl rfl)
theorem dX1_taggedNow_2 : decode cX1_taggedNow 2 = .ok (.iconst 0, 1) := dk_3 (dk_at dksX1_taggedNow_0 2 rfl rfl)
theorem dX1_taggedNow_3 : decode cX1_taggedNow 3 = .ok (.istore 4, 2) := dk_54 4 (dk_at dksX1_taggedNow_0 3 rfl rfl)
theorem dX1_taggedNow_5 : decode cX1_taggedNow 5 = .ok (.iload 4, 2) := dk_21 4 (dk_at dksX1_taggedNow_0 5 rfl rfl)
theorem dX1_taggedNow_7 : decode cX1_taggedNow 7 = .ok (.iload_n 2, 1) := dk_28 (dk_at dksX1_taggedNow_0 7 rfl rfl)
theorem dX1_taggedNow_8 : decode cX1_taggedNow 8 = .ok (.if_icmp .ge 34, 3) := dk_162 0 34 (dk_at dksX1_taggedNow_0 8 rfl rfl)
theorem dX1_taggedNow_11 : decode cX1_taggedNow 11 = .ok (.aload_n 0, 1) := dk_42 (dk_at dksX1_taggedNow_0 11 rfl rfl)
theorem dX1_taggedNow_12 : decode cX1_taggedNow 12 = .ok (.iload_n 3, 1) := dk_29 (dk_at dksX1_taggedNow_0 12 rfl rfl)
theorem dX1_taggedNow_13 : decode cX1_taggedNow 13 = .ok (.invokevirtual 385, 3) := dk_182 1 129 (dk_at dksX1_taggedNow_0 13 rfl rfl)
theorem dX1_taggedNow_16 : decode cX1_taggedNow 16 = .ok (.ifCond .eq 26, 3) := dk_153 0 26 (dk_at dksX1_taggedNow_0 16 rfl rfl)
theorem dX1_taggedNow_19 : decode cX1_taggedNow 19 = .ok (.aload_n 0, 1) := dk_42 (dk_at dksX1_taggedNow_0 19 rfl rfl)
theorem dX1_taggedNow_20 : decode cX1_taggedNow 20 = .ok (.iload_n 3, 1) := dk_29 (dk_at dksX1_taggedNow_0 20 rfl rfl)
theorem dX1_taggedNow_21 : decode cX1_taggedNow 21 = .ok (.invokevirtual 389, 3) := dk_182 1 133 (dk_at dksX1_taggedNow_0 21 rfl rfl)
theorem dX1_taggedNow_24 : decode cX1_taggedNow 24 = .ok (.istore_n 3, 1) := dk_62 (dk_at dksX1_taggedNow_1 0 rfl rfl)
theorem dX1_taggedNow_25 : decode cX1_taggedNow 25 = .ok (.iload_n 3, 1) := dk_29 (dk_at dksX1_taggedNow_1 1 rfl rfl)
theorem dX1_taggedNow_26 : decode cX1_taggedNow 26 = .ok (.invokestatic 392, 3) := dk_184 1 136 (dk_at dksX1_taggedNow_1 2 rfl rfl)
theorem dX1_taggedNow_29 : decode cX1_taggedNow 29 = .ok (.bipush 20, 2) := dk_16 20 (dk_at dksX1_taggedNow_1 5 rfl rfl)
theorem dX1_taggedNow_31 : decode cX1_taggedNow 31 = .ok (.if_icmp .le 5, 3) := dk_164 0 5 (dk_at dksX1_taggedNow_1 7 rfl rfl)
theorem dX1_taggedNow_34 : decode cX1_taggedNow 34 = .ok (.iconst (-1), 1) := dk_2 (dk_at dksX1_taggedNow_1 10 rfl rfl)
theorem dX1_taggedNow_35 : decode cX1_taggedNow 35 = .ok (.ireturn, 1) := dk_172 (dk_at dksX1_taggedNow_1 11 rfl rfl)
theorem dX1_taggedNow_36 : decode cX1_taggedNow 36 = .ok (.iinc 4 1, 3) := dk_132 4 1 (dk_at dksX1_taggedNow_1 12 rfl rfl)
theorem dX1_taggedNow_39 : decode cX1_taggedNow 39 = .ok (.goto (-34), 3) := dk_167 255 222 (dk_at dksX1_taggedNow_1 15 rfl rfl)
theorem dX1_taggedNow_42 : decode cX1_taggedNow 42 = .ok (.iload_n 3, 1) := dk_29 (dk_at dksX1_taggedNow_1 18 rfl rfl)
theorem dX1_taggedNow_43 : decode cX1_taggedNow 43 = .ok (.ireturn, 1) := dk_172 (dk_at dksX1_taggedNow_1 19 rfl rfl)
abbrev cX1_championNow : ByteArray := prog_1_method_41_code
def yX1_championNow : MethodName := ⟨RX1, "championNow", "(I)I"⟩
def dkwX1_championNow_4 : List UInt8 := [21, 5, 184, 0, 36, 62, 132, 4, 1, 167, 255, 163, 28, 172]
abbrev dktX1_championNow_4 : List UInt8 := dkwX1_championNow_4 ++ []
def dkwX1_championNow_3 : List UInt8 := [184, 1, 84, 167, 0, 4, 2, 54, 5, 21, 5, 29, 164, 0, 8, 21, 4, 167, 0, 4, 28, 61, 29]
abbrev dktX1_championNow_3 : List UInt8 := dkwX1_championNow_3 ++ dktX1_championNow_4
def dkwX1_championNow_2 : List UInt8 := [180, 0, 130, 21, 4, 185, 0, 60, 2, 0, 192, 0, 160, 17, 1, 244, 184, 0, 222, 16, 6, 27, 96]
abbrev dktX1_championNow_2 : List UInt8 := dkwX1_championNow_2 ++ dktX1_championNow_3
def dkwX1_championNow_1 : List UInt8 := [180, 0, 130, 21, 4, 185, 0, 60, 2, 0, 192, 0, 160, 178, 0, 254, 182, 1, 34, 153, 0, 33, 42]
abbrev dktX1_championNow_1 : List UInt8 := dkwX1_championNow_1 ++ dktX1_championNow_2
def dkwX1_championNow_0 : List UInt8 := [2, 61, 2, 62, 3, 54, 4, 21, 4, 42, 180, 0, 130, 185, 0, 56, 1, 0, 162, 0, 85, 42]
abbrev dktX1_championNow_0 : List UInt8 := dkwX1_championNow_0 ++ dktX1_championNow_1
theorem dksX1_championNow_0 : cX1_championNow.data.toList.drop 0 = dktX1_championNow_0 := by decide +kernel
theorem dksX1_championNow_1 : cX1_championNow.data.toList.drop 22 = dktX1_championNow_1 := dk_seg dksX1_championNow_0 22 rfl rfl
theorem dksX1_championNow_2 : cX1_championNow.data.toList.drop 45 = dktX1_championNow_2 := dk_seg dksX1_championNow_1 23 rfl rfl
theorem dksX1_championNow_3 : cX1_championNow.data.toList.drop 68 = dktX1_championNow_3 := dk_seg dksX1_championNow_2 23 rfl rfl
theorem dksX1_championNow_4 : cX1_championNow.data.toList.drop 91 = dktX1_championNow_4 := dk_seg dksX1_championNow_3 23 rfl rfl
theorem dX1_championNow_0 : decode cX1_championNow 0 = .ok (.iconst (-1), 1) := dk_2 (dk_at dksX1_championNow_0 0 rfl rfl)
theorem dX1_championNow_1 : decode cX1_championNow 1 = .ok (.istore_n 2, 1) := dk_61 (dk_at dksX1_championNow_0 1 rfl rfl)
theorem dX1_championNow_2 : decode cX1_championNow 2 = .ok (.iconst (-1), 1) := dk_2 (dk_at dksX1_championNow_0 2 rfl rfl)
theorem dX1_championNow_3 : decode cX1_championNow 3 = .ok (.istore_n 3, 1) := dk_62 (dk_at dksX1_championNow_0 3 rfl rfl)
theorem dX1_championNow_4 : decode cX1_championNow 4 = .ok (.iconst 0, 1) := dk_3 (dk_at dksX1_championNow_0 4 rfl rfl)
theorem dX1_championNow_5 : decode cX1_championNow 5 = .ok (.istore 4, 2) := dk_54 4 (dk_at dksX1_championNow_0 5 rfl rfl)
theorem dX1_championNow_7 : decode cX1_championNow 7 = .ok (.iload 4, 2) := dk_21 4 (dk_at dksX1_championNow_0 7 rfl rfl)
theorem dX1_championNow_9 : decode cX1_championNow 9 = .ok (.aload_n 0, 1) := dk_42 (dk_at dksX1_championNow_0 9 rfl rfl)
theorem dX1_championNow_10 : decode cX1_championNow 10 = .ok (.getfield 130, 3) := dk_180 0 130 (dk_at dksX1_championNow_0 10 rfl rfl)
theorem dX1_championNow_13 : decode cX1_championNow 13 = .ok (.invokeinterface 56 1, 5) := by decide +kernel
theorem dX1_championNow_18 : decode cX1_championNow 18 = .ok (.if_icmp .ge 85, 3) := dk_162 0 85 (dk_at dksX1_championNow_0 18 rfl rfl)
theorem dX1_championNow_21 : decode cX1_championNow 21 = .ok (.aload_n 0, 1) := dk_42 (dk_at dksX1_championNow_0 21 rfl rfl)
theorem dX1_championNow_22 : decode cX1_championNow 22 = .ok (.getfield 130, 3) := dk_180 0 130 (dk_at dksX1_championNow_1 0 rfl rfl)
theorem dX1_championNow_25 : decode cX1_championNow 25 = .ok (.iload 4, 2) := dk_21 4 (dk_at dksX1_championNow_1 3 rfl rfl)
theorem dX1_championNow_27 : decode cX1_championNow 27 = .ok (.invokeinterface 60 2, 5) := by decide +kernel
theorem dX1_championNow_32 : decode cX1_championNow 32 = .ok (.checkcast 160, 3) := dk_192 0 160 (dk_at dksX1_championNow_1 10 rfl rfl)
theorem dX1_championNow_35 : decode cX1_championNow 35 = .ok (.getstatic 254, 3) := dk_178 0 254 (dk_at dksX1_championNow_1 13 rfl rfl)
theorem dX1_championNow_38 : decode cX1_championNow 38 = .ok (.invokevirtual 290, 3) := dk_182 1 34 (dk_at dksX1_championNow_1 16 rfl rfl)
theorem dX1_championNow_41 : decode cX1_championNow 41 = .ok (.ifCond .eq 33, 3) := dk_153 0 33 (dk_at dksX1_championNow_1 19 rfl rfl)
theorem dX1_championNow_44 : decode cX1_championNow 44 = .ok (.aload_n 0, 1) := dk_42 (dk_at dksX1_championNow_1 22 rfl rfl)
theorem dX1_championNow_45 : decode cX1_championNow 45 = .ok (.getfield 130, 3) := dk_180 0 130 (dk_at dksX1_championNow_2 0 rfl rfl)
theorem dX1_championNow_48 : decode cX1_championNow 48 = .ok (.iload 4, 2) := dk_21 4 (dk_at dksX1_championNow_2 3 rfl rfl)
theorem dX1_championNow_50 : decode cX1_championNow 50 = .ok (.invokeinterface 60 2, 5) := by decide +kernel
theorem dX1_championNow_55 : decode cX1_championNow 55 = .ok (.checkcast 160, 3) := dk_192 0 160 (dk_at dksX1_championNow_2 10 rfl rfl)
theorem dX1_championNow_58 : decode cX1_championNow 58 = .ok (.sipush 500, 3) := dk_17 1 244 (dk_at dksX1_championNow_2 13 rfl rfl)
theorem dX1_championNow_61 : decode cX1_championNow 61 = .ok (.invokestatic 222, 3) := dk_184 0 222 (dk_at dksX1_championNow_2 16 rfl rfl)
theorem dX1_championNow_64 : decode cX1_championNow 64 = .ok (.bipush 6, 2) := dk_16 6 (dk_at dksX1_championNow_2 19 rfl rfl)
theorem dX1_championNow_66 : decode cX1_championNow 66 = .ok (.iload_n 1, 1) := dk_27 (dk_at dksX1_championNow_2 21 rfl rfl)
theorem dX1_championNow_67 : decode cX1_championNow 67 = .ok (.iadd, 1) := dk_96 (dk_at dksX1_championNow_2 22 rfl rfl)
theorem dX1_championNow_68 : decode cX1_championNow 68 = .ok (.invokestatic 340, 3) := dk_184 1 84 (dk_at dksX1_championNow_3 0 rfl rfl)
theorem dX1_championNow_71 : decode cX1_championNow 71 = .ok (.goto 4, 3) := dk_167 0 4 (dk_at dksX1_championNow_3 3 rfl rfl)
theorem dX1_championNow_74 : decode cX1_championNow 74 = .ok (.iconst (-1), 1) := dk_2 (dk_at dksX1_championNow_3 6 rfl rfl)
theorem dX1_championNow_75 : decode cX1_championNow 75 = .ok (.istore 5, 2) := dk_54 5 (dk_at dksX1_championNow_3 7 rfl rfl)
theorem dX1_championNow_77 : decode cX1_championNow 77 = .ok (.iload 5, 2) := dk_21 5 (dk_at dksX1_championNow_3 9 rfl rfl)
theorem dX1_championNow_79 : decode cX1_championNow 79 = .ok (.iload_n 3, 1) := dk_29 (dk_at dksX1_championNow_3 11 rfl rfl)
theorem dX1_championNow_80 : decode cX1_championNow 80 = .ok (.if_icmp .le 8, 3) := dk_164 0 8 (dk_at dksX1_championNow_3 12 rfl rfl)
theorem dX1_championNow_83 : decode cX1_championNow 83 = .ok (.iload 4, 2) := dk_21 4 (dk_at dksX1_championNow_3 15 rfl rfl)
theorem dX1_championNow_85 : decode cX1_championNow 85 = .ok (.goto 4, 3) := dk_167 0 4 (dk_at dksX1_championNow_3 17 rfl rfl)
theorem dX1_championNow_88 : decode cX1_championNow 88 = .ok (.iload_n 2, 1) := dk_28 (dk_at dksX1_championNow_3 20 rfl rfl)
theorem dX1_championNow_89 : decode cX1_championNow 89 = .ok (.istore_n 2, 1) := dk_61 (dk_at dksX1_championNow_3 21 rfl rfl)
theorem dX1_championNow_90 : decode cX1_championNow 90 = .ok (.iload_n 3, 1) := dk_29 (dk_at dksX1_championNow_3 22 rfl rfl)
theorem dX1_championNow_91 : decode cX1_championNow 91 = .ok (.iload 5, 2) := dk_21 5 (dk_at dksX1_championNow_4 0 rfl rfl)
theorem dX1_championNow_93 : decode cX1_championNow 93 = .ok (.invokestatic 36, 3) := dk_184 0 36 (dk_at dksX1_championNow_4 2 rfl rfl)
theorem dX1_championNow_96 : decode cX1_championNow 96 = .ok (.istore_n 3, 1) := dk_62 (dk_at dksX1_championNow_4 5 rfl rfl)
theorem dX1_championNow_97 : decode cX1_championNow 97 = .ok (.iinc 4 1, 3) := dk_132 4 1 (dk_at dksX1_championNow_4 6 rfl rfl)
theorem dX1_championNow_100 : decode cX1_championNow 100 = .ok (.goto (-93), 3) := dk_167 255 163 (dk_at dksX1_championNow_4 9 rfl rfl)
theorem dX1_championNow_103 : decode cX1_championNow 103 = .ok (.iload_n 2, 1) := dk_28 (dk_at dksX1_championNow_4 12 rfl rfl)
theorem dX1_championNow_104 : decode cX1_championNow 104 = .ok (.ireturn, 1) := dk_172 (dk_at dksX1_championNow_4 13 rfl rfl)
abbrev cX1_machine : ByteArray := prog_1_method_16_code
def yX1_machine : MethodName := ⟨RX1, "machine", "(I)I"⟩
def dkwX1_machine_2 : List UInt8 := [185, 0, 50, 2, 0, 87, 42, 180, 0, 130, 185, 0, 56, 1, 0, 4, 100, 172]
abbrev dktX1_machine_2 : List UInt8 := dkwX1_machine_2 ++ []
def dkwX1_machine_1 : List UInt8 := [3, 184, 0, 176, 42, 180, 0, 130, 187, 0, 160, 89, 187, 0, 74, 89, 27, 183, 0, 179, 183, 0, 182]
abbrev dktX1_machine_1 : List UInt8 := dkwX1_machine_1 ++ dktX1_machine_2
def dkwX1_machine_0 : List UInt8 := [27, 5, 7, 184, 0, 170, 42, 180, 0, 130, 185, 0, 56, 1, 0, 16, 12, 162, 0, 7, 4, 167, 0, 4]
abbrev dktX1_machine_0 : List UInt8 := dkwX1_machine_0 ++ dktX1_machine_1
theorem dksX1_machine_0 : cX1_machine.data.toList.drop 0 = dktX1_machine_0 := by decide +kernel
theorem dksX1_machine_1 : cX1_machine.data.toList.drop 24 = dktX1_machine_1 := dk_seg dksX1_machine_0 24 rfl rfl
theorem dksX1_machine_2 : cX1_machine.data.toList.drop 47 = dktX1_machine_2 := dk_seg dksX1_machine_1 23 rfl rfl
theorem dX1_machine_0 : decode cX1_machine 0 = .ok (.iload_n 1, 1) := dk_27 (dk_at dksX1_machine_0 0 rfl rfl)
theorem dX1_machine_1 : decode cX1_machine 1 = .ok (.iconst 2, 1) := dk_5 (dk_at dksX1_machine_0 1 rfl rfl)
theorem dX1_machine_2 : decode cX1_machine 2 = .ok (.iconst 4, 1) := dk_7 (dk_at dksX1_machine_0 2 rfl rfl)
theorem dX1_machine_3 : decode cX1_machine 3 = .ok (.invokestatic 170, 3) := dk_184 0 170 (dk_at dksX1_machine_0 3 rfl rfl)
theorem dX1_machine_6 : decode cX1_machine 6 = .ok (.aload_n 0, 1) := dk_42 (dk_at dksX1_machine_0 6 rfl rfl)
theorem dX1_machine_7 : decode cX1_machine 7 = .ok (.getfield 130, 3) := dk_180 0 130 (dk_at dksX1_machine_0 7 rfl rfl)
theorem dX1_machine_10 : decode cX1_machine 10 = .ok (.invokeinterface 56 1, 5) := by decide +kernel
theorem dX1_machine_15 : decode cX1_machine 15 = .ok (.bipush 12, 2) := dk_16 12 (dk_at dksX1_machine_0 15 rfl rfl)
theorem dX1_machine_17 : decode cX1_machine 17 = .ok (.if_icmp .ge 7, 3) := dk_162 0 7 (dk_at dksX1_machine_0 17 rfl rfl)
theorem dX1_machine_20 : decode cX1_machine 20 = .ok (.iconst 1, 1) := dk_4 (dk_at dksX1_machine_0 20 rfl rfl)
theorem dX1_machine_21 : decode cX1_machine 21 = .ok (.goto 4, 3) := dk_167 0 4 (dk_at dksX1_machine_0 21 rfl rfl)
theorem dX1_machine_24 : decode cX1_machine 24 = .ok (.iconst 0, 1) := dk_3 (dk_at dksX1_machine_1 0 rfl rfl)
theorem dX1_machine_25 : decode cX1_machine 25 = .ok (.invokestatic 176, 3) := dk_184 0 176 (dk_at dksX1_machine_1 1 rfl rfl)
theorem dX1_machine_28 : decode cX1_machine 28 = .ok (.aload_n 0, 1) := dk_42 (dk_at dksX1_machine_1 4 rfl rfl)
theorem dX1_machine_29 : decode cX1_machine 29 = .ok (.getfield 130, 3) := dk_180 0 130 (dk_at dksX1_machine_1 5 rfl rfl)
theorem dX1_machine_32 : decode cX1_machine 32 = .ok (.new 160, 3) := dk_187 0 160 (dk_at dksX1_machine_1 8 rfl rfl)
theorem dX1_machine_35 : decode cX1_machine 35 = .ok (.dup, 1) := dk_89 (dk_at dksX1_machine_1 11 rfl rfl)
theorem dX1_machine_36 : decode cX1_machine 36 = .ok (.new 74, 3) := dk_187 0 74 (dk_at dksX1_machine_1 12 rfl rfl)
theorem dX1_machine_39 : decode cX1_machine 39 = .ok (.dup, 1) := dk_89 (dk_at dksX1_machine_1 15 rfl rfl)
theorem dX1_machine_40 : decode cX1_machine 40 = .ok (.iload_n 1, 1) := dk_27 (dk_at dksX1_machine_1 16 rfl rfl)
theorem dX1_machine_41 : decode cX1_machine 41 = .ok (.invokespecial 179, 3) := dk_183 0 179 (dk_at dksX1_machine_1 17 rfl rfl)
theorem dX1_machine_44 : decode cX1_machine 44 = .ok (.invokespecial 182, 3) := dk_183 0 182 (dk_at dksX1_machine_1 20 rfl rfl)
theorem dX1_machine_47 : decode cX1_machine 47 = .ok (.invokeinterface 50 2, 5) := by decide +kernel
theorem dX1_machine_52 : decode cX1_machine 52 = .ok (.pop, 1) := dk_87 (dk_at dksX1_machine_2 5 rfl rfl)
theorem dX1_machine_53 : decode cX1_machine 53 = .ok (.aload_n 0, 1) := dk_42 (dk_at dksX1_machine_2 6 rfl rfl)
theorem dX1_machine_54 : decode cX1_machine 54 = .ok (.getfield 130, 3) := dk_180 0 130 (dk_at dksX1_machine_2 7 rfl rfl)
theorem dX1_machine_57 : decode cX1_machine 57 = .ok (.invokeinterface 56 1, 5) := by decide +kernel
theorem dX1_machine_62 : decode cX1_machine 62 = .ok (.iconst 1, 1) := dk_4 (dk_at dksX1_machine_2 15 rfl rfl)
theorem dX1_machine_63 : decode cX1_machine 63 = .ok (.isub, 1) := dk_100 (dk_at dksX1_machine_2 16 rfl rfl)
theorem dX1_machine_64 : decode cX1_machine 64 = .ok (.ireturn, 1) := dk_172 (dk_at dksX1_machine_2 17 rfl rfl)
abbrev cX1_checkState : ByteArray := prog_1_method_11_code
def yX1_checkState : MethodName := ⟨RX1, "checkState", "(Z)V"⟩
def dkwX1_checkState_0 : List UInt8 := [26, 154, 0, 11, 187, 0, 151, 89, 183, 0, 153, 191, 177]
abbrev dktX1_checkState_0 : List UInt8 := dkwX1_checkState_0 ++ []
theorem dksX1_checkState_0 : cX1_checkState.data.toList.drop 0 = dktX1_checkState_0 := by decide +kernel
theorem dX1_checkState_0 : decode cX1_checkState 0 = .ok (.iload_n 0, 1) := dk_26 (dk_at dksX1_checkState_0 0 rfl rfl)
theorem dX1_checkState_1 : decode cX1_checkState 1 = .ok (.ifCond .ne 11, 3) := dk_154 0 11 (dk_at dksX1_checkState_0 1 rfl rfl)
theorem dX1_checkState_4 : decode cX1_checkState 4 = .ok (.new 151, 3) := dk_187 0 151 (dk_at dksX1_checkState_0 4 rfl rfl)
theorem dX1_checkState_7 : decode cX1_checkState 7 = .ok (.dup, 1) := dk_89 (dk_at dksX1_checkState_0 7 rfl rfl)
theorem dX1_checkState_8 : decode cX1_checkState 8 = .ok (.invokespecial 153, 3) := dk_183 0 153 (dk_at dksX1_checkState_0 8 rfl rfl)
theorem dX1_checkState_11 : decode cX1_checkState 11 = .ok (.athrow, 1) := dk_191 (dk_at dksX1_checkState_0 11 rfl rfl)
theorem dX1_checkState_12 : decode cX1_checkState 12 = .ok (.return_, 1) := dk_177 (dk_at dksX1_checkState_0 12 rfl rfl)
abbrev cX1_tell : ByteArray := prog_1_method_18_code
def yX1_tell : MethodName := ⟨RX1, "tell", "(IIIIII)I"⟩
def dkwX1_tell_3 : List UInt8 := [25, 7, 182, 0, 213, 172]
abbrev dktX1_tell_3 : List UInt8 := dkwX1_tell_3 ++ []
def dkwX1_tell_2 : List UInt8 := [25, 8, 182, 0, 205, 42, 42, 180, 0, 130, 27, 185, 0, 60, 2, 0, 192, 0, 160, 182, 0, 209, 87]
abbrev dktX1_tell_2 : List UInt8 := dkwX1_tell_2 ++ dktX1_tell_3
def dkwX1_tell_1 : List UInt8 := [28, 29, 182, 0, 95, 182, 0, 99, 154, 0, 7, 4, 167, 0, 4, 3, 184, 0, 176, 25, 7, 28, 29]
abbrev dktX1_tell_1 : List UInt8 := dkwX1_tell_1 ++ dktX1_tell_2
def dkwX1_tell_0 : List UInt8 := [42, 27, 28, 29, 182, 0, 197, 58, 7, 25, 7, 21, 4, 21, 5, 21, 6, 184, 0, 201, 58, 8, 25, 7]
abbrev dktX1_tell_0 : List UInt8 := dkwX1_tell_0 ++ dktX1_tell_1
theorem dksX1_tell_0 : cX1_tell.data.toList.drop 0 = dktX1_tell_0 := by decide +kernel
theorem dksX1_tell_1 : cX1_tell.data.toList.drop 24 = dktX1_tell_1 := dk_seg dksX1_tell_0 24 rfl rfl
theorem dksX1_tell_2 : cX1_tell.data.toList.drop 47 = dktX1_tell_2 := dk_seg dksX1_tell_1 23 rfl rfl
theorem dksX1_tell_3 : cX1_tell.data.toList.drop 70 = dktX1_tell_3 := dk_seg dksX1_tell_2 23 rfl rfl
theorem dX1_tell_0 : decode cX1_tell 0 = .ok (.aload_n 0, 1) := dk_42 (dk_at dksX1_tell_0 0 rfl rfl)
theorem dX1_tell_1 : decode cX1_tell 1 = .ok (.iload_n 1, 1) := dk_27 (dk_at dksX1_tell_0 1 rfl rfl)
theorem dX1_tell_2 : decode cX1_tell 2 = .ok (.iload_n 2, 1) := dk_28 (dk_at dksX1_tell_0 2 rfl rfl)
theorem dX1_tell_3 : decode cX1_tell 3 = .ok (.iload_n 3, 1) := dk_29 (dk_at dksX1_tell_0 3 rfl rfl)
theorem dX1_tell_4 : decode cX1_tell 4 = .ok (.invokevirtual 197, 3) := dk_182 0 197 (dk_at dksX1_tell_0 4 rfl rfl)
theorem dX1_tell_7 : decode cX1_tell 7 = .ok (.astore 7, 2) := dk_58 7 (dk_at dksX1_tell_0 7 rfl rfl)
theorem dX1_tell_9 : decode cX1_tell 9 = .ok (.aload 7, 2) := dk_25 7 (dk_at dksX1_tell_0 9 rfl rfl)
theorem dX1_tell_11 : decode cX1_tell 11 = .ok (.iload 4, 2) := dk_21 4 (dk_at dksX1_tell_0 11 rfl rfl)
theorem dX1_tell_13 : decode cX1_tell 13 = .ok (.iload 5, 2) := dk_21 5 (dk_at dksX1_tell_0 13 rfl rfl)
theorem dX1_tell_15 : decode cX1_tell 15 = .ok (.iload 6, 2) := dk_21 6 (dk_at dksX1_tell_0 15 rfl rfl)
theorem dX1_tell_17 : decode cX1_tell 17 = .ok (.invokestatic 201, 3) := dk_184 0 201 (dk_at dksX1_tell_0 17 rfl rfl)
theorem dX1_tell_20 : decode cX1_tell 20 = .ok (.astore 8, 2) := dk_58 8 (dk_at dksX1_tell_0 20 rfl rfl)
theorem dX1_tell_22 : decode cX1_tell 22 = .ok (.aload 7, 2) := dk_25 7 (dk_at dksX1_tell_0 22 rfl rfl)
theorem dX1_tell_24 : decode cX1_tell 24 = .ok (.iload_n 2, 1) := dk_28 (dk_at dksX1_tell_1 0 rfl rfl)
theorem dX1_tell_25 : decode cX1_tell 25 = .ok (.iload_n 3, 1) := dk_29 (dk_at dksX1_tell_1 1 rfl rfl)
theorem dX1_tell_26 : decode cX1_tell 26 = .ok (.invokevirtual 95, 3) := dk_182 0 95 (dk_at dksX1_tell_1 2 rfl rfl)
theorem dX1_tell_29 : decode cX1_tell 29 = .ok (.invokevirtual 99, 3) := dk_182 0 99 (dk_at dksX1_tell_1 5 rfl rfl)
theorem dX1_tell_32 : decode cX1_tell 32 = .ok (.ifCond .ne 7, 3) := dk_154 0 7 (dk_at dksX1_tell_1 8 rfl rfl)
theorem dX1_tell_35 : decode cX1_tell 35 = .ok (.iconst 1, 1) := dk_4 (dk_at dksX1_tell_1 11 rfl rfl)
theorem dX1_tell_36 : decode cX1_tell 36 = .ok (.goto 4, 3) := dk_167 0 4 (dk_at dksX1_tell_1 12 rfl rfl)
theorem dX1_tell_39 : decode cX1_tell 39 = .ok (.iconst 0, 1) := dk_3 (dk_at dksX1_tell_1 15 rfl rfl)
theorem dX1_tell_40 : decode cX1_tell 40 = .ok (.invokestatic 176, 3) := dk_184 0 176 (dk_at dksX1_tell_1 16 rfl rfl)
theorem dX1_tell_43 : decode cX1_tell 43 = .ok (.aload 7, 2) := dk_25 7 (dk_at dksX1_tell_1 19 rfl rfl)
theorem dX1_tell_45 : decode cX1_tell 45 = .ok (.iload_n 2, 1) := dk_28 (dk_at dksX1_tell_1 21 rfl rfl)
theorem dX1_tell_46 : decode cX1_tell 46 = .ok (.iload_n 3, 1) := dk_29 (dk_at dksX1_tell_1 22 rfl rfl)
theorem dX1_tell_47 : decode cX1_tell 47 = .ok (.aload 8, 2) := dk_25 8 (dk_at dksX1_tell_2 0 rfl rfl)
theorem dX1_tell_49 : decode cX1_tell 49 = .ok (.invokevirtual 205, 3) := dk_182 0 205 (dk_at dksX1_tell_2 2 rfl rfl)
theorem dX1_tell_52 : decode cX1_tell 52 = .ok (.aload_n 0, 1) := dk_42 (dk_at dksX1_tell_2 5 rfl rfl)
theorem dX1_tell_53 : decode cX1_tell 53 = .ok (.aload_n 0, 1) := dk_42 (dk_at dksX1_tell_2 6 rfl rfl)
theorem dX1_tell_54 : decode cX1_tell 54 = .ok (.getfield 130, 3) := dk_180 0 130 (dk_at dksX1_tell_2 7 rfl rfl)
theorem dX1_tell_57 : decode cX1_tell 57 = .ok (.iload_n 1, 1) := dk_27 (dk_at dksX1_tell_2 10 rfl rfl)
theorem dX1_tell_58 : decode cX1_tell 58 = .ok (.invokeinterface 60 2, 5) := by decide +kernel
theorem dX1_tell_63 : decode cX1_tell 63 = .ok (.checkcast 160, 3) := dk_192 0 160 (dk_at dksX1_tell_2 16 rfl rfl)
theorem dX1_tell_66 : decode cX1_tell 66 = .ok (.invokevirtual 209, 3) := dk_182 0 209 (dk_at dksX1_tell_2 19 rfl rfl)
theorem dX1_tell_69 : decode cX1_tell 69 = .ok (.pop, 1) := dk_87 (dk_at dksX1_tell_2 22 rfl rfl)
theorem dX1_tell_70 : decode cX1_tell 70 = .ok (.aload 7, 2) := dk_25 7 (dk_at dksX1_tell_3 0 rfl rfl)
theorem dX1_tell_72 : decode cX1_tell 72 = .ok (.invokevirtual 213, 3) := dk_182 0 213 (dk_at dksX1_tell_3 2 rfl rfl)
theorem dX1_tell_75 : decode cX1_tell 75 = .ok (.ireturn, 1) := dk_172 (dk_at dksX1_tell_3 5 rfl rfl)
abbrev cX1_cellAt : ByteArray := prog_1_method_14_code
def yX1_cellAt : MethodName := ⟨RX1, "cellAt", "(III)LHaltingale$Table;"⟩
def dkwX1_cellAt_1 : List UInt8 := [25, 4, 176]
abbrev dktX1_cellAt_1 : List UInt8 := dkwX1_cellAt_1 ++ []
def dkwX1_cellAt_0 : List UInt8 := [42, 27, 182, 0, 162, 180, 0, 166, 58, 4, 28, 25, 4, 180, 0, 73, 184, 0, 157, 29, 5, 184, 0, 157]
abbrev dktX1_cellAt_0 : List UInt8 := dkwX1_cellAt_0 ++ dktX1_cellAt_1
theorem dksX1_cellAt_0 : cX1_cellAt.data.toList.drop 0 = dktX1_cellAt_0 := by decide +kernel
theorem dksX1_cellAt_1 : cX1_cellAt.data.toList.drop 24 = dktX1_cellAt_1 := dk_seg dksX1_cellAt_0 24 rfl rfl
theorem dX1_cellAt_0 : decode cX1_cellAt 0 = .ok (.aload_n 0, 1) := dk_42 (dk_at dksX1_cellAt_0 0 rfl rfl)
theorem dX1_cellAt_1 : decode cX1_cellAt 1 = .ok (.iload_n 1, 1) := dk_27 (dk_at dksX1_cellAt_0 1 rfl rfl)
theorem dX1_cellAt_2 : decode cX1_cellAt 2 = .ok (.invokevirtual 162, 3) := dk_182 0 162 (dk_at dksX1_cellAt_0 2 rfl rfl)
theorem dX1_cellAt_5 : decode cX1_cellAt 5 = .ok (.getfield 166, 3) := dk_180 0 166 (dk_at dksX1_cellAt_0 5 rfl rfl)
theorem dX1_cellAt_8 : decode cX1_cellAt 8 = .ok (.astore 4, 2) := dk_58 4 (dk_at dksX1_cellAt_0 8 rfl rfl)
theorem dX1_cellAt_10 : decode cX1_cellAt 10 = .ok (.iload_n 2, 1) := dk_28 (dk_at dksX1_cellAt_0 10 rfl rfl)
theorem dX1_cellAt_11 : decode cX1_cellAt 11 = .ok (.aload 4, 2) := dk_25 4 (dk_at dksX1_cellAt_0 11 rfl rfl)
theorem dX1_cellAt_13 : decode cX1_cellAt 13 = .ok (.getfield 73, 3) := dk_180 0 73 (dk_at dksX1_cellAt_0 13 rfl rfl)
theorem dX1_cellAt_16 : decode cX1_cellAt 16 = .ok (.invokestatic 157, 3) := dk_184 0 157 (dk_at dksX1_cellAt_0 16 rfl rfl)
theorem dX1_cellAt_19 : decode cX1_cellAt 19 = .ok (.iload_n 3, 1) := dk_29 (dk_at dksX1_cellAt_0 19 rfl rfl)
theorem dX1_cellAt_20 : decode cX1_cellAt 20 = .ok (.iconst 2, 1) := dk_5 (dk_at dksX1_cellAt_0 20 rfl rfl)
theorem dX1_cellAt_21 : decode cX1_cellAt 21 = .ok (.invokestatic 157, 3) := dk_184 0 157 (dk_at dksX1_cellAt_0 21 rfl rfl)
theorem dX1_cellAt_24 : decode cX1_cellAt 24 = .ok (.aload 4, 2) := dk_25 4 (dk_at dksX1_cellAt_1 0 rfl rfl)
theorem dX1_cellAt_26 : decode cX1_cellAt 26 = .ok (.areturn, 1) := dk_176 (dk_at dksX1_cellAt_1 2 rfl rfl)
abbrev cX1_machineAt : ByteArray := prog_1_method_13_code
def yX1_machineAt : MethodName := ⟨RX1, "machineAt", "(I)LHaltingale$Machine;"⟩
def dkwX1_machineAt_1 : List UInt8 := [192, 0, 160, 176]
abbrev dktX1_machineAt_1 : List UInt8 := dkwX1_machineAt_1 ++ []
def dkwX1_machineAt_0 : List UInt8 := [27, 42, 180, 0, 130, 185, 0, 56, 1, 0, 184, 0, 157, 42, 180, 0, 130, 27, 185, 0, 60, 2, 0]
abbrev dktX1_machineAt_0 : List UInt8 := dkwX1_machineAt_0 ++ dktX1_machineAt_1
theorem dksX1_machineAt_0 : cX1_machineAt.data.toList.drop 0 = dktX1_machineAt_0 := by decide +kernel
theorem dksX1_machineAt_1 : cX1_machineAt.data.toList.drop 23 = dktX1_machineAt_1 := dk_seg dksX1_machineAt_0 23 rfl rfl
theorem dX1_machineAt_0 : decode cX1_machineAt 0 = .ok (.iload_n 1, 1) := dk_27 (dk_at dksX1_machineAt_0 0 rfl rfl)
theorem dX1_machineAt_1 : decode cX1_machineAt 1 = .ok (.aload_n 0, 1) := dk_42 (dk_at dksX1_machineAt_0 1 rfl rfl)
theorem dX1_machineAt_2 : decode cX1_machineAt 2 = .ok (.getfield 130, 3) := dk_180 0 130 (dk_at dksX1_machineAt_0 2 rfl rfl)
theorem dX1_machineAt_5 : decode cX1_machineAt 5 = .ok (.invokeinterface 56 1, 5) := by decide +kernel
theorem dX1_machineAt_10 : decode cX1_machineAt 10 = .ok (.invokestatic 157, 3) := dk_184 0 157 (dk_at dksX1_machineAt_0 10 rfl rfl)
theorem dX1_machineAt_13 : decode cX1_machineAt 13 = .ok (.aload_n 0, 1) := dk_42 (dk_at dksX1_machineAt_0 13 rfl rfl)
theorem dX1_machineAt_14 : decode cX1_machineAt 14 = .ok (.getfield 130, 3) := dk_180 0 130 (dk_at dksX1_machineAt_0 14 rfl rfl)
theorem dX1_machineAt_17 : decode cX1_machineAt 17 = .ok (.iload_n 1, 1) := dk_27 (dk_at dksX1_machineAt_0 17 rfl rfl)
theorem dX1_machineAt_18 : decode cX1_machineAt 18 = .ok (.invokeinterface 60 2, 5) := by decide +kernel
theorem dX1_machineAt_23 : decode cX1_machineAt 23 = .ok (.checkcast 160, 3) := dk_192 0 160 (dk_at dksX1_machineAt_1 0 rfl rfl)
theorem dX1_machineAt_26 : decode cX1_machineAt 26 = .ok (.areturn, 1) := dk_176 (dk_at dksX1_machineAt_1 3 rfl rfl)
abbrev cX1_checkPlace : ByteArray := prog_1_method_12_code
def yX1_checkPlace : MethodName := ⟨RX1, "checkPlace", "(II)V"⟩
def dkwX1_checkPlace_0 : List UInt8 := [26, 155, 0, 8, 26, 27, 161, 0, 11, 187, 0, 154, 89, 183, 0, 156, 191, 177]
abbrev dktX1_checkPlace_0 : List UInt8 := dkwX1_checkPlace_0 ++ []
theorem dksX1_checkPlace_0 : cX1_checkPlace.data.toList.drop 0 = dktX1_checkPlace_0 := by decide +kernel
theorem dX1_checkPlace_0 : decode cX1_checkPlace 0 = .ok (.iload_n 0, 1) := dk_26 (dk_at dksX1_checkPlace_0 0 rfl rfl)
theorem dX1_checkPlace_1 : decode cX1_checkPlace 1 = .ok (.ifCond .lt 8, 3) := dk_155 0 8 (dk_at dksX1_checkPlace_0 1 rfl rfl)
theorem dX1_checkPlace_4 : decode cX1_checkPlace 4 = .ok (.iload_n 0, 1) := dk_26 (dk_at dksX1_checkPlace_0 4 rfl rfl)
theorem dX1_checkPlace_5 : decode cX1_checkPlace 5 = .ok (.iload_n 1, 1) := dk_27 (dk_at dksX1_checkPlace_0 5 rfl rfl)
theorem dX1_checkPlace_6 : decode cX1_checkPlace 6 = .ok (.if_icmp .lt 11, 3) := dk_161 0 11 (dk_at dksX1_checkPlace_0 6 rfl rfl)
theorem dX1_checkPlace_9 : decode cX1_checkPlace 9 = .ok (.new 154, 3) := dk_187 0 154 (dk_at dksX1_checkPlace_0 9 rfl rfl)
theorem dX1_checkPlace_12 : decode cX1_checkPlace 12 = .ok (.dup, 1) := dk_89 (dk_at dksX1_checkPlace_0 12 rfl rfl)
theorem dX1_checkPlace_13 : decode cX1_checkPlace 13 = .ok (.invokespecial 156, 3) := dk_183 0 156 (dk_at dksX1_checkPlace_0 13 rfl rfl)
theorem dX1_checkPlace_16 : decode cX1_checkPlace 16 = .ok (.athrow, 1) := dk_191 (dk_at dksX1_checkPlace_0 16 rfl rfl)
theorem dX1_checkPlace_17 : decode cX1_checkPlace 17 = .ok (.return_, 1) := dk_177 (dk_at dksX1_checkPlace_0 17 rfl rfl)
abbrev cX1_ruleOf : ByteArray := prog_1_method_15_code
def yX1_ruleOf : MethodName := ⟨RX1, "ruleOf", "(LHaltingale$Table;III)LHaltingale$Rule;"⟩
def dkwX1_ruleOf_1 : List UInt8 := [29, 3, 42, 180, 0, 73, 184, 0, 170, 187, 0, 107, 89, 27, 28, 29, 183, 0, 174, 176]
abbrev dktX1_ruleOf_1 : List UInt8 := dkwX1_ruleOf_1 ++ []
def dkwX1_ruleOf_0 : List UInt8 := [27, 3, 4, 184, 0, 170, 28, 4, 159, 0, 8, 28, 2, 160, 0, 7, 4, 167, 0, 4, 3, 184, 0, 147]
abbrev dktX1_ruleOf_0 : List UInt8 := dkwX1_ruleOf_0 ++ dktX1_ruleOf_1
theorem dksX1_ruleOf_0 : cX1_ruleOf.data.toList.drop 0 = dktX1_ruleOf_0 := by decide +kernel
theorem dksX1_ruleOf_1 : cX1_ruleOf.data.toList.drop 24 = dktX1_ruleOf_1 := dk_seg dksX1_ruleOf_0 24 rfl rfl
theorem dX1_ruleOf_0 : decode cX1_ruleOf 0 = .ok (.iload_n 1, 1) := dk_27 (dk_at dksX1_ruleOf_0 0 rfl rfl)
theorem dX1_ruleOf_1 : decode cX1_ruleOf 1 = .ok (.iconst 0, 1) := dk_3 (dk_at dksX1_ruleOf_0 1 rfl rfl)
theorem dX1_ruleOf_2 : decode cX1_ruleOf 2 = .ok (.iconst 1, 1) := dk_4 (dk_at dksX1_ruleOf_0 2 rfl rfl)
theorem dX1_ruleOf_3 : decode cX1_ruleOf 3 = .ok (.invokestatic 170, 3) := dk_184 0 170 (dk_at dksX1_ruleOf_0 3 rfl rfl)
theorem dX1_ruleOf_6 : decode cX1_ruleOf 6 = .ok (.iload_n 2, 1) := dk_28 (dk_at dksX1_ruleOf_0 6 rfl rfl)
theorem dX1_ruleOf_7 : decode cX1_ruleOf 7 = .ok (.iconst 1, 1) := dk_4 (dk_at dksX1_ruleOf_0 7 rfl rfl)
theorem dX1_ruleOf_8 : decode cX1_ruleOf 8 = .ok (.if_icmp .eq 8, 3) := dk_159 0 8 (dk_at dksX1_ruleOf_0 8 rfl rfl)
theorem dX1_ruleOf_11 : decode cX1_ruleOf 11 = .ok (.iload_n 2, 1) := dk_28 (dk_at dksX1_ruleOf_0 11 rfl rfl)
theorem dX1_ruleOf_12 : decode cX1_ruleOf 12 = .ok (.iconst (-1), 1) := dk_2 (dk_at dksX1_ruleOf_0 12 rfl rfl)
theorem dX1_ruleOf_13 : decode cX1_ruleOf 13 = .ok (.if_icmp .ne 7, 3) := dk_160 0 7 (dk_at dksX1_ruleOf_0 13 rfl rfl)
theorem dX1_ruleOf_16 : decode cX1_ruleOf 16 = .ok (.iconst 1, 1) := dk_4 (dk_at dksX1_ruleOf_0 16 rfl rfl)
theorem dX1_ruleOf_17 : decode cX1_ruleOf 17 = .ok (.goto 4, 3) := dk_167 0 4 (dk_at dksX1_ruleOf_0 17 rfl rfl)
theorem dX1_ruleOf_20 : decode cX1_ruleOf 20 = .ok (.iconst 0, 1) := dk_3 (dk_at dksX1_ruleOf_0 20 rfl rfl)
theorem dX1_ruleOf_21 : decode cX1_ruleOf 21 = .ok (.invokestatic 147, 3) := dk_184 0 147 (dk_at dksX1_ruleOf_0 21 rfl rfl)
theorem dX1_ruleOf_24 : decode cX1_ruleOf 24 = .ok (.iload_n 3, 1) := dk_29 (dk_at dksX1_ruleOf_1 0 rfl rfl)
theorem dX1_ruleOf_25 : decode cX1_ruleOf 25 = .ok (.iconst 0, 1) := dk_3 (dk_at dksX1_ruleOf_1 1 rfl rfl)
theorem dX1_ruleOf_26 : decode cX1_ruleOf 26 = .ok (.aload_n 0, 1) := dk_42 (dk_at dksX1_ruleOf_1 2 rfl rfl)
theorem dX1_ruleOf_27 : decode cX1_ruleOf 27 = .ok (.getfield 73, 3) := dk_180 0 73 (dk_at dksX1_ruleOf_1 3 rfl rfl)
theorem dX1_ruleOf_30 : decode cX1_ruleOf 30 = .ok (.invokestatic 170, 3) := dk_184 0 170 (dk_at dksX1_ruleOf_1 6 rfl rfl)
theorem dX1_ruleOf_33 : decode cX1_ruleOf 33 = .ok (.new 107, 3) := dk_187 0 107 (dk_at dksX1_ruleOf_1 9 rfl rfl)
theorem dX1_ruleOf_36 : decode cX1_ruleOf 36 = .ok (.dup, 1) := dk_89 (dk_at dksX1_ruleOf_1 12 rfl rfl)
theorem dX1_ruleOf_37 : decode cX1_ruleOf 37 = .ok (.iload_n 1, 1) := dk_27 (dk_at dksX1_ruleOf_1 13 rfl rfl)
theorem dX1_ruleOf_38 : decode cX1_ruleOf 38 = .ok (.iload_n 2, 1) := dk_28 (dk_at dksX1_ruleOf_1 14 rfl rfl)
theorem dX1_ruleOf_39 : decode cX1_ruleOf 39 = .ok (.iload_n 3, 1) := dk_29 (dk_at dksX1_ruleOf_1 15 rfl rfl)
theorem dX1_ruleOf_40 : decode cX1_ruleOf 40 = .ok (.invokespecial 174, 3) := dk_183 0 174 (dk_at dksX1_ruleOf_1 16 rfl rfl)
theorem dX1_ruleOf_43 : decode cX1_ruleOf 43 = .ok (.areturn, 1) := dk_176 (dk_at dksX1_ruleOf_1 19 rfl rfl)
abbrev cX1_takeBack : ByteArray := prog_1_method_17_code
def yX1_takeBack : MethodName := ⟨RX1, "takeBack", "(LHaltingale$Machine;)Z"⟩
def dkwX1_takeBack_2 : List UInt8 := [58, 4, 45, 195, 25, 4, 191, 28, 172]
abbrev dktX1_takeBack_2 : List UInt8 := dkwX1_takeBack_2 ++ []
def dkwX1_takeBack_1 : List UInt8 := [43, 182, 0, 191, 167, 0, 4, 3, 96, 181, 0, 188, 42, 180, 0, 140, 182, 0, 194, 45, 195, 167, 0, 10]
abbrev dktX1_takeBack_1 : List UInt8 := dkwX1_takeBack_1 ++ dktX1_takeBack_2
def dkwX1_takeBack_0 : List UInt8 := [43, 182, 0, 185, 61, 42, 180, 0, 140, 89, 78, 194, 42, 180, 0, 140, 89, 180, 0, 188, 28, 153, 0, 10]
abbrev dktX1_takeBack_0 : List UInt8 := dkwX1_takeBack_0 ++ dktX1_takeBack_1
theorem dksX1_takeBack_0 : cX1_takeBack.data.toList.drop 0 = dktX1_takeBack_0 := by decide +kernel
theorem dksX1_takeBack_1 : cX1_takeBack.data.toList.drop 24 = dktX1_takeBack_1 := dk_seg dksX1_takeBack_0 24 rfl rfl
theorem dksX1_takeBack_2 : cX1_takeBack.data.toList.drop 48 = dktX1_takeBack_2 := dk_seg dksX1_takeBack_1 24 rfl rfl
theorem dX1_takeBack_0 : decode cX1_takeBack 0 = .ok (.aload_n 1, 1) := dk_43 (dk_at dksX1_takeBack_0 0 rfl rfl)
theorem dX1_takeBack_1 : decode cX1_takeBack 1 = .ok (.invokevirtual 185, 3) := dk_182 0 185 (dk_at dksX1_takeBack_0 1 rfl rfl)
theorem dX1_takeBack_4 : decode cX1_takeBack 4 = .ok (.istore_n 2, 1) := dk_61 (dk_at dksX1_takeBack_0 4 rfl rfl)
theorem dX1_takeBack_5 : decode cX1_takeBack 5 = .ok (.aload_n 0, 1) := dk_42 (dk_at dksX1_takeBack_0 5 rfl rfl)
theorem dX1_takeBack_6 : decode cX1_takeBack 6 = .ok (.getfield 140, 3) := dk_180 0 140 (dk_at dksX1_takeBack_0 6 rfl rfl)
theorem dX1_takeBack_9 : decode cX1_takeBack 9 = .ok (.dup, 1) := dk_89 (dk_at dksX1_takeBack_0 9 rfl rfl)
theorem dX1_takeBack_10 : decode cX1_takeBack 10 = .ok (.astore_n 3, 1) := dk_78 (dk_at dksX1_takeBack_0 10 rfl rfl)
theorem dX1_takeBack_11 : decode cX1_takeBack 11 = .ok (.monitorenter, 1) := dk_194 (dk_at dksX1_takeBack_0 11 rfl rfl)
theorem dX1_takeBack_12 : decode cX1_takeBack 12 = .ok (.aload_n 0, 1) := dk_42 (dk_at dksX1_takeBack_0 12 rfl rfl)
theorem dX1_takeBack_13 : decode cX1_takeBack 13 = .ok (.getfield 140, 3) := dk_180 0 140 (dk_at dksX1_takeBack_0 13 rfl rfl)
theorem dX1_takeBack_16 : decode cX1_takeBack 16 = .ok (.dup, 1) := dk_89 (dk_at dksX1_takeBack_0 16 rfl rfl)
theorem dX1_takeBack_17 : decode cX1_takeBack 17 = .ok (.getfield 188, 3) := dk_180 0 188 (dk_at dksX1_takeBack_0 17 rfl rfl)
theorem dX1_takeBack_20 : decode cX1_takeBack 20 = .ok (.iload_n 2, 1) := dk_28 (dk_at dksX1_takeBack_0 20 rfl rfl)
theorem dX1_takeBack_21 : decode cX1_takeBack 21 = .ok (.ifCond .eq 10, 3) := dk_153 0 10 (dk_at dksX1_takeBack_0 21 rfl rfl)
theorem dX1_takeBack_24 : decode cX1_takeBack 24 = .ok (.aload_n 1, 1) := dk_43 (dk_at dksX1_takeBack_1 0 rfl rfl)
theorem dX1_takeBack_25 : decode cX1_takeBack 25 = .ok (.invokevirtual 191, 3) := dk_182 0 191 (dk_at dksX1_takeBack_1 1 rfl rfl)
theorem dX1_takeBack_28 : decode cX1_takeBack 28 = .ok (.goto 4, 3) := dk_167 0 4 (dk_at dksX1_takeBack_1 4 rfl rfl)
theorem dX1_takeBack_31 : decode cX1_takeBack 31 = .ok (.iconst 0, 1) := dk_3 (dk_at dksX1_takeBack_1 7 rfl rfl)
theorem dX1_takeBack_32 : decode cX1_takeBack 32 = .ok (.iadd, 1) := dk_96 (dk_at dksX1_takeBack_1 8 rfl rfl)
theorem dX1_takeBack_33 : decode cX1_takeBack 33 = .ok (.putfield 188, 3) := dk_181 0 188 (dk_at dksX1_takeBack_1 9 rfl rfl)
theorem dX1_takeBack_36 : decode cX1_takeBack 36 = .ok (.aload_n 0, 1) := dk_42 (dk_at dksX1_takeBack_1 12 rfl rfl)
theorem dX1_takeBack_37 : decode cX1_takeBack 37 = .ok (.getfield 140, 3) := dk_180 0 140 (dk_at dksX1_takeBack_1 13 rfl rfl)
theorem dX1_takeBack_40 : decode cX1_takeBack 40 = .ok (.invokevirtual 194, 3) := dk_182 0 194 (dk_at dksX1_takeBack_1 16 rfl rfl)
theorem dX1_takeBack_43 : decode cX1_takeBack 43 = .ok (.aload_n 3, 1) := dk_45 (dk_at dksX1_takeBack_1 19 rfl rfl)
theorem dX1_takeBack_44 : decode cX1_takeBack 44 = .ok (.monitorexit, 1) := dk_195 (dk_at dksX1_takeBack_1 20 rfl rfl)
theorem dX1_takeBack_45 : decode cX1_takeBack 45 = .ok (.goto 10, 3) := dk_167 0 10 (dk_at dksX1_takeBack_1 21 rfl rfl)
theorem dX1_takeBack_48 : decode cX1_takeBack 48 = .ok (.astore 4, 2) := dk_58 4 (dk_at dksX1_takeBack_2 0 rfl rfl)
theorem dX1_takeBack_50 : decode cX1_takeBack 50 = .ok (.aload_n 3, 1) := dk_45 (dk_at dksX1_takeBack_2 2 rfl rfl)
theorem dX1_takeBack_51 : decode cX1_takeBack 51 = .ok (.monitorexit, 1) := dk_195 (dk_at dksX1_takeBack_2 3 rfl rfl)
theorem dX1_takeBack_52 : decode cX1_takeBack 52 = .ok (.aload 4, 2) := dk_25 4 (dk_at dksX1_takeBack_2 4 rfl rfl)
theorem dX1_takeBack_54 : decode cX1_takeBack 54 = .ok (.athrow, 1) := dk_191 (dk_at dksX1_takeBack_2 6 rfl rfl)
theorem dX1_takeBack_55 : decode cX1_takeBack 55 = .ok (.iload_n 2, 1) := dk_28 (dk_at dksX1_takeBack_2 7 rfl rfl)
theorem dX1_takeBack_56 : decode cX1_takeBack 56 = .ok (.ireturn, 1) := dk_172 (dk_at dksX1_takeBack_2 8 rfl rfl)
abbrev cX1_amend : ByteArray := prog_1_method_19_code
def yX1_amend : MethodName := ⟨RX1, "amend", "(IIIIII)Z"⟩
def dkwX1_amend_2 : List UInt8 := [180, 0, 130, 27, 185, 0, 60, 2, 0, 192, 0, 160, 182, 0, 209, 172]
abbrev dktX1_amend_2 : List UInt8 := dkwX1_amend_2 ++ []
def dkwX1_amend_1 : List UInt8 := [28, 29, 182, 0, 95, 182, 0, 99, 184, 0, 176, 25, 7, 28, 29, 25, 8, 182, 0, 205, 42, 42]
abbrev dktX1_amend_1 : List UInt8 := dkwX1_amend_1 ++ dktX1_amend_2
def dkwX1_amend_0 : List UInt8 := [42, 27, 28, 29, 182, 0, 197, 58, 7, 25, 7, 21, 4, 21, 5, 21, 6, 184, 0, 201, 58, 8, 25, 7]
abbrev dktX1_amend_0 : List UInt8 := dkwX1_amend_0 ++ dktX1_amend_1
theorem dksX1_amend_0 : cX1_amend.data.toList.drop 0 = dktX1_amend_0 := by decide +kernel
theorem dksX1_amend_1 : cX1_amend.data.toList.drop 24 = dktX1_amend_1 := dk_seg dksX1_amend_0 24 rfl rfl
theorem dksX1_amend_2 : cX1_amend.data.toList.drop 46 = dktX1_amend_2 := dk_seg dksX1_amend_1 22 rfl rfl
theorem dX1_amend_0 : decode cX1_amend 0 = .ok (.aload_n 0, 1) := dk_42 (dk_at dksX1_amend_0 0 rfl rfl)
theorem dX1_amend_1 : decode cX1_amend 1 = .ok (.iload_n 1, 1) := dk_27 (dk_at dksX1_amend_0 1 rfl rfl)
theorem dX1_amend_2 : decode cX1_amend 2 = .ok (.iload_n 2, 1) := dk_28 (dk_at dksX1_amend_0 2 rfl rfl)
theorem dX1_amend_3 : decode cX1_amend 3 = .ok (.iload_n 3, 1) := dk_29 (dk_at dksX1_amend_0 3 rfl rfl)
theorem dX1_amend_4 : decode cX1_amend 4 = .ok (.invokevirtual 197, 3) := dk_182 0 197 (dk_at dksX1_amend_0 4 rfl rfl)
theorem dX1_amend_7 : decode cX1_amend 7 = .ok (.astore 7, 2) := dk_58 7 (dk_at dksX1_amend_0 7 rfl rfl)
theorem dX1_amend_9 : decode cX1_amend 9 = .ok (.aload 7, 2) := dk_25 7 (dk_at dksX1_amend_0 9 rfl rfl)
theorem dX1_amend_11 : decode cX1_amend 11 = .ok (.iload 4, 2) := dk_21 4 (dk_at dksX1_amend_0 11 rfl rfl)
theorem dX1_amend_13 : decode cX1_amend 13 = .ok (.iload 5, 2) := dk_21 5 (dk_at dksX1_amend_0 13 rfl rfl)
theorem dX1_amend_15 : decode cX1_amend 15 = .ok (.iload 6, 2) := dk_21 6 (dk_at dksX1_amend_0 15 rfl rfl)
theorem dX1_amend_17 : decode cX1_amend 17 = .ok (.invokestatic 201, 3) := dk_184 0 201 (dk_at dksX1_amend_0 17 rfl rfl)
theorem dX1_amend_20 : decode cX1_amend 20 = .ok (.astore 8, 2) := dk_58 8 (dk_at dksX1_amend_0 20 rfl rfl)
theorem dX1_amend_22 : decode cX1_amend 22 = .ok (.aload 7, 2) := dk_25 7 (dk_at dksX1_amend_0 22 rfl rfl)
theorem dX1_amend_24 : decode cX1_amend 24 = .ok (.iload_n 2, 1) := dk_28 (dk_at dksX1_amend_1 0 rfl rfl)
theorem dX1_amend_25 : decode cX1_amend 25 = .ok (.iload_n 3, 1) := dk_29 (dk_at dksX1_amend_1 1 rfl rfl)
theorem dX1_amend_26 : decode cX1_amend 26 = .ok (.invokevirtual 95, 3) := dk_182 0 95 (dk_at dksX1_amend_1 2 rfl rfl)
theorem dX1_amend_29 : decode cX1_amend 29 = .ok (.invokevirtual 99, 3) := dk_182 0 99 (dk_at dksX1_amend_1 5 rfl rfl)
theorem dX1_amend_32 : decode cX1_amend 32 = .ok (.invokestatic 176, 3) := dk_184 0 176 (dk_at dksX1_amend_1 8 rfl rfl)
theorem dX1_amend_35 : decode cX1_amend 35 = .ok (.aload 7, 2) := dk_25 7 (dk_at dksX1_amend_1 11 rfl rfl)
theorem dX1_amend_37 : decode cX1_amend 37 = .ok (.iload_n 2, 1) := dk_28 (dk_at dksX1_amend_1 13 rfl rfl)
theorem dX1_amend_38 : decode cX1_amend 38 = .ok (.iload_n 3, 1) := dk_29 (dk_at dksX1_amend_1 14 rfl rfl)
theorem dX1_amend_39 : decode cX1_amend 39 = .ok (.aload 8, 2) := dk_25 8 (dk_at dksX1_amend_1 15 rfl rfl)
theorem dX1_amend_41 : decode cX1_amend 41 = .ok (.invokevirtual 205, 3) := dk_182 0 205 (dk_at dksX1_amend_1 17 rfl rfl)
theorem dX1_amend_44 : decode cX1_amend 44 = .ok (.aload_n 0, 1) := dk_42 (dk_at dksX1_amend_1 20 rfl rfl)
theorem dX1_amend_45 : decode cX1_amend 45 = .ok (.aload_n 0, 1) := dk_42 (dk_at dksX1_amend_1 21 rfl rfl)
theorem dX1_amend_46 : decode cX1_amend 46 = .ok (.getfield 130, 3) := dk_180 0 130 (dk_at dksX1_amend_2 0 rfl rfl)
theorem dX1_amend_49 : decode cX1_amend 49 = .ok (.iload_n 1, 1) := dk_27 (dk_at dksX1_amend_2 3 rfl rfl)
theorem dX1_amend_50 : decode cX1_amend 50 = .ok (.invokeinterface 60 2, 5) := by decide +kernel
theorem dX1_amend_55 : decode cX1_amend 55 = .ok (.checkcast 160, 3) := dk_192 0 160 (dk_at dksX1_amend_2 9 rfl rfl)
theorem dX1_amend_58 : decode cX1_amend 58 = .ok (.invokevirtual 209, 3) := dk_182 0 209 (dk_at dksX1_amend_2 12 rfl rfl)
theorem dX1_amend_61 : decode cX1_amend 61 = .ok (.ireturn, 1) := dk_172 (dk_at dksX1_amend_2 15 rfl rfl)
abbrev cX1_child : ByteArray := prog_1_method_22_code
def yX1_child : MethodName := ⟨RX1, "child", "(II)I"⟩
def dkwX1_child_7 : List UInt8 := [4, 100, 172]
abbrev dktX1_child_7 : List UInt8 := dkwX1_child_7 ++ []
def dkwX1_child_6 : List UInt8 := [187, 0, 160, 89, 25, 5, 183, 0, 182, 185, 0, 50, 2, 0, 87, 42, 180, 0, 130, 185, 0, 56, 1, 0]
abbrev dktX1_child_6 : List UInt8 := dkwX1_child_6 ++ dktX1_child_7
def dkwX1_child_5 : List UInt8 := [25, 4, 180, 0, 234, 25, 4, 25, 4, 180, 0, 18, 182, 0, 237, 25, 7, 182, 0, 205, 42, 180, 0, 130]
abbrev dktX1_child_5 : List UInt8 := dkwX1_child_5 ++ dktX1_child_6
def dkwX1_child_4 : List UInt8 := [21, 6, 7, 112, 5, 162, 0, 7, 4, 167, 0, 4, 2, 21, 6, 7, 108, 183, 0, 174, 58, 7, 25, 5]
abbrev dktX1_child_4 : List UInt8 := dkwX1_child_4 ++ dktX1_child_5
def dkwX1_child_3 : List UInt8 := [89, 4, 4, 25, 5, 180, 0, 73, 183, 0, 174, 167, 0, 33, 187, 0, 107, 89, 4, 21, 6, 5, 112, 100]
abbrev dktX1_child_3 : List UInt8 := dkwX1_child_3 ++ dktX1_child_4
def dkwX1_child_2 : List UInt8 := [184, 0, 176, 45, 180, 0, 166, 182, 0, 230, 58, 5, 28, 4, 100, 54, 6, 28, 154, 0, 20, 187, 0, 107]
abbrev dktX1_child_2 : List UInt8 := dkwX1_child_2 ++ dktX1_child_3
def dkwX1_child_1 : List UInt8 := [184, 0, 170, 42, 180, 0, 130, 185, 0, 56, 1, 0, 16, 12, 162, 0, 7, 4, 167, 0, 4, 3]
abbrev dktX1_child_1 : List UInt8 := dkwX1_child_1 ++ dktX1_child_2
def dkwX1_child_0 : List UInt8 := [42, 27, 182, 0, 162, 78, 45, 17, 1, 244, 184, 0, 222, 58, 4, 28, 3, 25, 4, 184, 0, 226, 4, 100]
abbrev dktX1_child_0 : List UInt8 := dkwX1_child_0 ++ dktX1_child_1
theorem dksX1_child_0 : cX1_child.data.toList.drop 0 = dktX1_child_0 := by decide +kernel
theorem dksX1_child_1 : cX1_child.data.toList.drop 24 = dktX1_child_1 := dk_seg dksX1_child_0 24 rfl rfl
theorem dksX1_child_2 : cX1_child.data.toList.drop 46 = dktX1_child_2 := dk_seg dksX1_child_1 22 rfl rfl
theorem dksX1_child_3 : cX1_child.data.toList.drop 70 = dktX1_child_3 := dk_seg dksX1_child_2 24 rfl rfl
theorem dksX1_child_4 : cX1_child.data.toList.drop 94 = dktX1_child_4 := dk_seg dksX1_child_3 24 rfl rfl
theorem dksX1_child_5 : cX1_child.data.toList.drop 118 = dktX1_child_5 := dk_seg dksX1_child_4 24 rfl rfl
theorem dksX1_child_6 : cX1_child.data.toList.drop 142 = dktX1_child_6 := dk_seg dksX1_child_5 24 rfl rfl
theorem dksX1_child_7 : cX1_child.data.toList.drop 166 = dktX1_child_7 := dk_seg dksX1_child_6 24 rfl rfl
theorem dX1_child_0 : decode cX1_child 0 = .ok (.aload_n 0, 1) := dk_42 (dk_at dksX1_child_0 0 rfl rfl)
theorem dX1_child_1 : decode cX1_child 1 = .ok (.iload_n 1, 1) := dk_27 (dk_at dksX1_child_0 1 rfl rfl)
theorem dX1_child_2 : decode cX1_child 2 = .ok (.invokevirtual 162, 3) := dk_182 0 162 (dk_at dksX1_child_0 2 rfl rfl)
theorem dX1_child_5 : decode cX1_child 5 = .ok (.astore_n 3, 1) := dk_78 (dk_at dksX1_child_0 5 rfl rfl)
theorem dX1_child_6 : decode cX1_child 6 = .ok (.aload_n 3, 1) := dk_45 (dk_at dksX1_child_0 6 rfl rfl)
theorem dX1_child_7 : decode cX1_child 7 = .ok (.sipush 500, 3) := dk_17 1 244 (dk_at dksX1_child_0 7 rfl rfl)
theorem dX1_child_10 : decode cX1_child 10 = .ok (.invokestatic 222, 3) := dk_184 0 222 (dk_at dksX1_child_0 10 rfl rfl)
theorem dX1_child_13 : decode cX1_child 13 = .ok (.astore 4, 2) := dk_58 4 (dk_at dksX1_child_0 13 rfl rfl)
theorem dX1_child_15 : decode cX1_child 15 = .ok (.iload_n 2, 1) := dk_28 (dk_at dksX1_child_0 15 rfl rfl)
theorem dX1_child_16 : decode cX1_child 16 = .ok (.iconst 0, 1) := dk_3 (dk_at dksX1_child_0 16 rfl rfl)
theorem dX1_child_17 : decode cX1_child 17 = .ok (.aload 4, 2) := dk_25 4 (dk_at dksX1_child_0 17 rfl rfl)
theorem dX1_child_19 : decode cX1_child 19 = .ok (.invokestatic 226, 3) := dk_184 0 226 (dk_at dksX1_child_0 19 rfl rfl)
theorem dX1_child_22 : decode cX1_child 22 = .ok (.iconst 1, 1) := dk_4 (dk_at dksX1_child_0 22 rfl rfl)
theorem dX1_child_23 : decode cX1_child 23 = .ok (.isub, 1) := dk_100 (dk_at dksX1_child_0 23 rfl rfl)
theorem dX1_child_24 : decode cX1_child 24 = .ok (.invokestatic 170, 3) := dk_184 0 170 (dk_at dksX1_child_1 0 rfl rfl)
theorem dX1_child_27 : decode cX1_child 27 = .ok (.aload_n 0, 1) := dk_42 (dk_at dksX1_child_1 3 rfl rfl)
theorem dX1_child_28 : decode cX1_child 28 = .ok (.getfield 130, 3) := dk_180 0 130 (dk_at dksX1_child_1 4 rfl rfl)
theorem dX1_child_31 : decode cX1_child 31 = .ok (.invokeinterface 56 1, 5) := by decide +kernel
theorem dX1_child_36 : decode cX1_child 36 = .ok (.bipush 12, 2) := dk_16 12 (dk_at dksX1_child_1 12 rfl rfl)
theorem dX1_child_38 : decode cX1_child 38 = .ok (.if_icmp .ge 7, 3) := dk_162 0 7 (dk_at dksX1_child_1 14 rfl rfl)
theorem dX1_child_41 : decode cX1_child 41 = .ok (.iconst 1, 1) := dk_4 (dk_at dksX1_child_1 17 rfl rfl)
theorem dX1_child_42 : decode cX1_child 42 = .ok (.goto 4, 3) := dk_167 0 4 (dk_at dksX1_child_1 18 rfl rfl)
theorem dX1_child_45 : decode cX1_child 45 = .ok (.iconst 0, 1) := dk_3 (dk_at dksX1_child_1 21 rfl rfl)
theorem dX1_child_46 : decode cX1_child 46 = .ok (.invokestatic 176, 3) := dk_184 0 176 (dk_at dksX1_child_2 0 rfl rfl)
theorem dX1_child_49 : decode cX1_child 49 = .ok (.aload_n 3, 1) := dk_45 (dk_at dksX1_child_2 3 rfl rfl)
theorem dX1_child_50 : decode cX1_child 50 = .ok (.getfield 166, 3) := dk_180 0 166 (dk_at dksX1_child_2 4 rfl rfl)
theorem dX1_child_53 : decode cX1_child 53 = .ok (.invokevirtual 230, 3) := dk_182 0 230 (dk_at dksX1_child_2 7 rfl rfl)
theorem dX1_child_56 : decode cX1_child 56 = .ok (.astore 5, 2) := dk_58 5 (dk_at dksX1_child_2 10 rfl rfl)
theorem dX1_child_58 : decode cX1_child 58 = .ok (.iload_n 2, 1) := dk_28 (dk_at dksX1_child_2 12 rfl rfl)
theorem dX1_child_59 : decode cX1_child 59 = .ok (.iconst 1, 1) := dk_4 (dk_at dksX1_child_2 13 rfl rfl)
theorem dX1_child_60 : decode cX1_child 60 = .ok (.isub, 1) := dk_100 (dk_at dksX1_child_2 14 rfl rfl)
theorem dX1_child_61 : decode cX1_child 61 = .ok (.istore 6, 2) := dk_54 6 (dk_at dksX1_child_2 15 rfl rfl)
theorem dX1_child_63 : decode cX1_child 63 = .ok (.iload_n 2, 1) := dk_28 (dk_at dksX1_child_2 17 rfl rfl)
theorem dX1_child_64 : decode cX1_child 64 = .ok (.ifCond .ne 20, 3) := dk_154 0 20 (dk_at dksX1_child_2 18 rfl rfl)
theorem dX1_child_67 : decode cX1_child 67 = .ok (.new 107, 3) := dk_187 0 107 (dk_at dksX1_child_2 21 rfl rfl)
theorem dX1_child_70 : decode cX1_child 70 = .ok (.dup, 1) := dk_89 (dk_at dksX1_child_3 0 rfl rfl)
theorem dX1_child_71 : decode cX1_child 71 = .ok (.iconst 1, 1) := dk_4 (dk_at dksX1_child_3 1 rfl rfl)
theorem dX1_child_72 : decode cX1_child 72 = .ok (.iconst 1, 1) := dk_4 (dk_at dksX1_child_3 2 rfl rfl)
theorem dX1_child_73 : decode cX1_child 73 = .ok (.aload 5, 2) := dk_25 5 (dk_at dksX1_child_3 3 rfl rfl)
theorem dX1_child_75 : decode cX1_child 75 = .ok (.getfield 73, 3) := dk_180 0 73 (dk_at dksX1_child_3 5 rfl rfl)
theorem dX1_child_78 : decode cX1_child 78 = .ok (.invokespecial 174, 3) := dk_183 0 174 (dk_at dksX1_child_3 8 rfl rfl)
theorem dX1_child_81 : decode cX1_child 81 = .ok (.goto 33, 3) := dk_167 0 33 (dk_at dksX1_child_3 11 rfl rfl)
theorem dX1_child_84 : decode cX1_child 84 = .ok (.new 107, 3) := dk_187 0 107 (dk_at dksX1_child_3 14 rfl rfl)
theorem dX1_child_87 : decode cX1_child 87 = .ok (.dup, 1) := dk_89 (dk_at dksX1_child_3 17 rfl rfl)
theorem dX1_child_88 : decode cX1_child 88 = .ok (.iconst 1, 1) := dk_4 (dk_at dksX1_child_3 18 rfl rfl)
theorem dX1_child_89 : decode cX1_child 89 = .ok (.iload 6, 2) := dk_21 6 (dk_at dksX1_child_3 19 rfl rfl)
theorem dX1_child_91 : decode cX1_child 91 = .ok (.iconst 2, 1) := dk_5 (dk_at dksX1_child_3 21 rfl rfl)
theorem dX1_child_92 : decode cX1_child 92 = .ok (.irem, 1) := dk_112 (dk_at dksX1_child_3 22 rfl rfl)
theorem dX1_child_93 : decode cX1_child 93 = .ok (.isub, 1) := dk_100 (dk_at dksX1_child_3 23 rfl rfl)
theorem dX1_child_94 : decode cX1_child 94 = .ok (.iload 6, 2) := dk_21 6 (dk_at dksX1_child_4 0 rfl rfl)
theorem dX1_child_96 : decode cX1_child 96 = .ok (.iconst 4, 1) := dk_7 (dk_at dksX1_child_4 2 rfl rfl)
theorem dX1_child_97 : decode cX1_child 97 = .ok (.irem, 1) := dk_112 (dk_at dksX1_child_4 3 rfl rfl)
theorem dX1_child_98 : decode cX1_child 98 = .ok (.iconst 2, 1) := dk_5 (dk_at dksX1_child_4 4 rfl rfl)
theorem dX1_child_99 : decode cX1_child 99 = .ok (.if_icmp .ge 7, 3) := dk_162 0 7 (dk_at dksX1_child_4 5 rfl rfl)
theorem dX1_child_102 : decode cX1_child 102 = .ok (.iconst 1, 1) := dk_4 (dk_at dksX1_child_4 8 rfl rfl)
theorem dX1_child_103 : decode cX1_child 103 = .ok (.goto 4, 3) := dk_167 0 4 (dk_at dksX1_child_4 9 rfl rfl)
theorem dX1_child_106 : decode cX1_child 106 = .ok (.iconst (-1), 1) := dk_2 (dk_at dksX1_child_4 12 rfl rfl)
theorem dX1_child_107 : decode cX1_child 107 = .ok (.iload 6, 2) := dk_21 6 (dk_at dksX1_child_4 13 rfl rfl)
theorem dX1_child_109 : decode cX1_child 109 = .ok (.iconst 4, 1) := dk_7 (dk_at dksX1_child_4 15 rfl rfl)
theorem dX1_child_110 : decode cX1_child 110 = .ok (.idiv, 1) := dk_108 (dk_at dksX1_child_4 16 rfl rfl)
theorem dX1_child_111 : decode cX1_child 111 = .ok (.invokespecial 174, 3) := dk_183 0 174 (dk_at dksX1_child_4 17 rfl rfl)
theorem dX1_child_114 : decode cX1_child 114 = .ok (.astore 7, 2) := dk_58 7 (dk_at dksX1_child_4 20 rfl rfl)
theorem dX1_child_116 : decode cX1_child 116 = .ok (.aload 5, 2) := dk_25 5 (dk_at dksX1_child_4 22 rfl rfl)
theorem dX1_child_118 : decode cX1_child 118 = .ok (.aload 4, 2) := dk_25 4 (dk_at dksX1_child_5 0 rfl rfl)
theorem dX1_child_120 : decode cX1_child 120 = .ok (.getfield 234, 3) := dk_180 0 234 (dk_at dksX1_child_5 2 rfl rfl)
theorem dX1_child_123 : decode cX1_child 123 = .ok (.aload 4, 2) := dk_25 4 (dk_at dksX1_child_5 5 rfl rfl)
theorem dX1_child_125 : decode cX1_child 125 = .ok (.aload 4, 2) := dk_25 4 (dk_at dksX1_child_5 7 rfl rfl)
theorem dX1_child_127 : decode cX1_child 127 = .ok (.getfield 18, 3) := dk_180 0 18 (dk_at dksX1_child_5 9 rfl rfl)
theorem dX1_child_130 : decode cX1_child 130 = .ok (.invokevirtual 237, 3) := dk_182 0 237 (dk_at dksX1_child_5 12 rfl rfl)
theorem dX1_child_133 : decode cX1_child 133 = .ok (.aload 7, 2) := dk_25 7 (dk_at dksX1_child_5 15 rfl rfl)
theorem dX1_child_135 : decode cX1_child 135 = .ok (.invokevirtual 205, 3) := dk_182 0 205 (dk_at dksX1_child_5 17 rfl rfl)
theorem dX1_child_138 : decode cX1_child 138 = .ok (.aload_n 0, 1) := dk_42 (dk_at dksX1_child_5 20 rfl rfl)
theorem dX1_child_139 : decode cX1_child 139 = .ok (.getfield 130, 3) := dk_180 0 130 (dk_at dksX1_child_5 21 rfl rfl)
theorem dX1_child_142 : decode cX1_child 142 = .ok (.new 160, 3) := dk_187 0 160 (dk_at dksX1_child_6 0 rfl rfl)
theorem dX1_child_145 : decode cX1_child 145 = .ok (.dup, 1) := dk_89 (dk_at dksX1_child_6 3 rfl rfl)
theorem dX1_child_146 : decode cX1_child 146 = .ok (.aload 5, 2) := dk_25 5 (dk_at dksX1_child_6 4 rfl rfl)
theorem dX1_child_148 : decode cX1_child 148 = .ok (.invokespecial 182, 3) := dk_183 0 182 (dk_at dksX1_child_6 6 rfl rfl)
theorem dX1_child_151 : decode cX1_child 151 = .ok (.invokeinterface 50 2, 5) := by decide +kernel
theorem dX1_child_156 : decode cX1_child 156 = .ok (.pop, 1) := dk_87 (dk_at dksX1_child_6 14 rfl rfl)
theorem dX1_child_157 : decode cX1_child 157 = .ok (.aload_n 0, 1) := dk_42 (dk_at dksX1_child_6 15 rfl rfl)
theorem dX1_child_158 : decode cX1_child 158 = .ok (.getfield 130, 3) := dk_180 0 130 (dk_at dksX1_child_6 16 rfl rfl)
theorem dX1_child_161 : decode cX1_child 161 = .ok (.invokeinterface 56 1, 5) := by decide +kernel
theorem dX1_child_166 : decode cX1_child 166 = .ok (.iconst 1, 1) := dk_4 (dk_at dksX1_child_7 0 rfl rfl)
theorem dX1_child_167 : decode cX1_child 167 = .ok (.isub, 1) := dk_100 (dk_at dksX1_child_7 1 rfl rfl)
theorem dX1_child_168 : decode cX1_child 168 = .ok (.ireturn, 1) := dk_172 (dk_at dksX1_child_7 2 rfl rfl)
abbrev cX1_tag : ByteArray := prog_1_method_23_code
def yX1_tag : MethodName := ⟨RX1, "tag", "(III)I"⟩
def dkwX1_tag_3 : List UInt8 := [172]
abbrev dktX1_tag_3 : List UInt8 := dkwX1_tag_3 ++ []
def dkwX1_tag_2 : List UInt8 := [89, 27, 28, 29, 183, 0, 242, 185, 0, 50, 2, 0, 87, 42, 180, 0, 134, 185, 0, 56, 1, 0, 4, 100]
abbrev dktX1_tag_2 : List UInt8 := dkwX1_tag_2 ++ dktX1_tag_3
def dkwX1_tag_1 : List UInt8 := [185, 0, 56, 1, 0, 7, 162, 0, 7, 4, 167, 0, 4, 3, 184, 0, 176, 42, 180, 0, 134, 187, 0, 240]
abbrev dktX1_tag_1 : List UInt8 := dkwX1_tag_1 ++ dktX1_tag_2
def dkwX1_tag_0 : List UInt8 := [27, 4, 6, 184, 0, 170, 28, 4, 16, 63, 184, 0, 170, 29, 4, 16, 63, 184, 0, 170, 42, 180, 0, 134]
abbrev dktX1_tag_0 : List UInt8 := dkwX1_tag_0 ++ dktX1_tag_1
theorem dksX1_tag_0 : cX1_tag.data.toList.drop 0 = dktX1_tag_0 := by decide +kernel
theorem dksX1_tag_1 : cX1_tag.data.toList.drop 24 = dktX1_tag_1 := dk_seg dksX1_tag_0 24 rfl rfl
theorem dksX1_tag_2 : cX1_tag.data.toList.drop 48 = dktX1_tag_2 := dk_seg dksX1_tag_1 24 rfl rfl
theorem dksX1_tag_3 : cX1_tag.data.toList.drop 72 = dktX1_tag_3 := dk_seg dksX1_tag_2 24 rfl rfl
theorem dX1_tag_0 : decode cX1_tag 0 = .ok (.iload_n 1, 1) := dk_27 (dk_at dksX1_tag_0 0 rfl rfl)
theorem dX1_tag_1 : decode cX1_tag 1 = .ok (.iconst 1, 1) := dk_4 (dk_at dksX1_tag_0 1 rfl rfl)
theorem dX1_tag_2 : decode cX1_tag 2 = .ok (.iconst 3, 1) := dk_6 (dk_at dksX1_tag_0 2 rfl rfl)
theorem dX1_tag_3 : decode cX1_tag 3 = .ok (.invokestatic 170, 3) := dk_184 0 170 (dk_at dksX1_tag_0 3 rfl rfl)
theorem dX1_tag_6 : decode cX1_tag 6 = .ok (.iload_n 2, 1) := dk_28 (dk_at dksX1_tag_0 6 rfl rfl)
theorem dX1_tag_7 : decode cX1_tag 7 = .ok (.iconst 1, 1) := dk_4 (dk_at dksX1_tag_0 7 rfl rfl)
theorem dX1_tag_8 : decode cX1_tag 8 = .ok (.bipush 63, 2) := dk_16 63 (dk_at dksX1_tag_0 8 rfl rfl)
theorem dX1_tag_10 : decode cX1_tag 10 = .ok (.invokestatic 170, 3) := dk_184 0 170 (dk_at dksX1_tag_0 10 rfl rfl)
theorem dX1_tag_13 : decode cX1_tag 13 = .ok (.iload_n 3, 1) := dk_29 (dk_at dksX1_tag_0 13 rfl rfl)
theorem dX1_tag_14 : decode cX1_tag 14 = .ok (.iconst 1, 1) := dk_4 (dk_at dksX1_tag_0 14 rfl rfl)
theorem dX1_tag_15 : decode cX1_tag 15 = .ok (.bipush 63, 2) := dk_16 63 (dk_at dksX1_tag_0 15 rfl rfl)
theorem dX1_tag_17 : decode cX1_tag 17 = .ok (.invokestatic 170, 3) := dk_184 0 170 (dk_at dksX1_tag_0 17 rfl rfl)
theorem dX1_tag_20 : decode cX1_tag 20 = .ok (.aload_n 0, 1) := dk_42 (dk_at dksX1_tag_0 20 rfl rfl)
theorem dX1_tag_21 : decode cX1_tag 21 = .ok (.getfield 134, 3) := dk_180 0 134 (dk_at dksX1_tag_0 21 rfl rfl)
theorem dX1_tag_24 : decode cX1_tag 24 = .ok (.invokeinterface 56 1, 5) := by decide +kernel
theorem dX1_tag_29 : decode cX1_tag 29 = .ok (.iconst 4, 1) := dk_7 (dk_at dksX1_tag_1 5 rfl rfl)
theorem dX1_tag_30 : decode cX1_tag 30 = .ok (.if_icmp .ge 7, 3) := dk_162 0 7 (dk_at dksX1_tag_1 6 rfl rfl)
theorem dX1_tag_33 : decode cX1_tag 33 = .ok (.iconst 1, 1) := dk_4 (dk_at dksX1_tag_1 9 rfl rfl)
theorem dX1_tag_34 : decode cX1_tag 34 = .ok (.goto 4, 3) := dk_167 0 4 (dk_at dksX1_tag_1 10 rfl rfl)
theorem dX1_tag_37 : decode cX1_tag 37 = .ok (.iconst 0, 1) := dk_3 (dk_at dksX1_tag_1 13 rfl rfl)
theorem dX1_tag_38 : decode cX1_tag 38 = .ok (.invokestatic 176, 3) := dk_184 0 176 (dk_at dksX1_tag_1 14 rfl rfl)
theorem dX1_tag_41 : decode cX1_tag 41 = .ok (.aload_n 0, 1) := dk_42 (dk_at dksX1_tag_1 17 rfl rfl)
theorem dX1_tag_42 : decode cX1_tag 42 = .ok (.getfield 134, 3) := dk_180 0 134 (dk_at dksX1_tag_1 18 rfl rfl)
theorem dX1_tag_45 : decode cX1_tag 45 = .ok (.new 240, 3) := dk_187 0 240 (dk_at dksX1_tag_1 21 rfl rfl)
theorem dX1_tag_48 : decode cX1_tag 48 = .ok (.dup, 1) := dk_89 (dk_at dksX1_tag_2 0 rfl rfl)
theorem dX1_tag_49 : decode cX1_tag 49 = .ok (.iload_n 1, 1) := dk_27 (dk_at dksX1_tag_2 1 rfl rfl)
theorem dX1_tag_50 : decode cX1_tag 50 = .ok (.iload_n 2, 1) := dk_28 (dk_at dksX1_tag_2 2 rfl rfl)
theorem dX1_tag_51 : decode cX1_tag 51 = .ok (.iload_n 3, 1) := dk_29 (dk_at dksX1_tag_2 3 rfl rfl)
theorem dX1_tag_52 : decode cX1_tag 52 = .ok (.invokespecial 242, 3) := dk_183 0 242 (dk_at dksX1_tag_2 4 rfl rfl)
theorem dX1_tag_55 : decode cX1_tag 55 = .ok (.invokeinterface 50 2, 5) := by decide +kernel
theorem dX1_tag_60 : decode cX1_tag 60 = .ok (.pop, 1) := dk_87 (dk_at dksX1_tag_2 12 rfl rfl)
theorem dX1_tag_61 : decode cX1_tag 61 = .ok (.aload_n 0, 1) := dk_42 (dk_at dksX1_tag_2 13 rfl rfl)
theorem dX1_tag_62 : decode cX1_tag 62 = .ok (.getfield 134, 3) := dk_180 0 134 (dk_at dksX1_tag_2 14 rfl rfl)
theorem dX1_tag_65 : decode cX1_tag 65 = .ok (.invokeinterface 56 1, 5) := by decide +kernel
theorem dX1_tag_70 : decode cX1_tag 70 = .ok (.iconst 1, 1) := dk_4 (dk_at dksX1_tag_2 22 rfl rfl)
theorem dX1_tag_71 : decode cX1_tag 71 = .ok (.isub, 1) := dk_100 (dk_at dksX1_tag_2 23 rfl rfl)
theorem dX1_tag_72 : decode cX1_tag 72 = .ok (.ireturn, 1) := dk_172 (dk_at dksX1_tag_3 0 rfl rfl)
abbrev cX1_prove : ByteArray := prog_1_method_26_code
def yX1_prove : MethodName := ⟨RX1, "prove", "(IIII)Z"⟩
def dkwX1_prove_3 : List UInt8 := [21, 4, 182, 1, 30, 21, 7, 172]
abbrev dktX1_prove_3 : List UInt8 := dkwX1_prove_3 ++ []
def dkwX1_prove_2 : List UInt8 := [21, 4, 182, 1, 23, 54, 7, 42, 21, 7, 182, 1, 27, 21, 7, 153, 0, 13, 25, 5, 25, 6, 29]
abbrev dktX1_prove_2 : List UInt8 := dkwX1_prove_2 ++ dktX1_prove_3
def dkwX1_prove_1 : List UInt8 := [25, 5, 182, 1, 20, 154, 0, 7, 4, 167, 0, 4, 3, 184, 0, 176, 25, 6, 25, 5, 180, 0, 166, 29]
abbrev dktX1_prove_1 : List UInt8 := dkwX1_prove_1 ++ dktX1_prove_2
def dkwX1_prove_0 : List UInt8 := [42, 27, 182, 0, 162, 58, 5, 28, 184, 1, 13, 58, 6, 25, 6, 29, 21, 4, 182, 1, 17, 184, 0, 147]
abbrev dktX1_prove_0 : List UInt8 := dkwX1_prove_0 ++ dktX1_prove_1
theorem dksX1_prove_0 : cX1_prove.data.toList.drop 0 = dktX1_prove_0 := by decide +kernel
theorem dksX1_prove_1 : cX1_prove.data.toList.drop 24 = dktX1_prove_1 := dk_seg dksX1_prove_0 24 rfl rfl
theorem dksX1_prove_2 : cX1_prove.data.toList.drop 48 = dktX1_prove_2 := dk_seg dksX1_prove_1 24 rfl rfl
theorem dksX1_prove_3 : cX1_prove.data.toList.drop 71 = dktX1_prove_3 := dk_seg dksX1_prove_2 23 rfl rfl
theorem dX1_prove_0 : decode cX1_prove 0 = .ok (.aload_n 0, 1) := dk_42 (dk_at dksX1_prove_0 0 rfl rfl)
theorem dX1_prove_1 : decode cX1_prove 1 = .ok (.iload_n 1, 1) := dk_27 (dk_at dksX1_prove_0 1 rfl rfl)
theorem dX1_prove_2 : decode cX1_prove 2 = .ok (.invokevirtual 162, 3) := dk_182 0 162 (dk_at dksX1_prove_0 2 rfl rfl)
theorem dX1_prove_5 : decode cX1_prove 5 = .ok (.astore 5, 2) := dk_58 5 (dk_at dksX1_prove_0 5 rfl rfl)
theorem dX1_prove_7 : decode cX1_prove 7 = .ok (.iload_n 2, 1) := dk_28 (dk_at dksX1_prove_0 7 rfl rfl)
theorem dX1_prove_8 : decode cX1_prove 8 = .ok (.invokestatic 269, 3) := dk_184 1 13 (dk_at dksX1_prove_0 8 rfl rfl)
theorem dX1_prove_11 : decode cX1_prove 11 = .ok (.astore 6, 2) := dk_58 6 (dk_at dksX1_prove_0 11 rfl rfl)
theorem dX1_prove_13 : decode cX1_prove 13 = .ok (.aload 6, 2) := dk_25 6 (dk_at dksX1_prove_0 13 rfl rfl)
theorem dX1_prove_15 : decode cX1_prove 15 = .ok (.iload_n 3, 1) := dk_29 (dk_at dksX1_prove_0 15 rfl rfl)
theorem dX1_prove_16 : decode cX1_prove 16 = .ok (.iload 4, 2) := dk_21 4 (dk_at dksX1_prove_0 16 rfl rfl)
theorem dX1_prove_18 : decode cX1_prove 18 = .ok (.invokevirtual 273, 3) := dk_182 1 17 (dk_at dksX1_prove_0 18 rfl rfl)
theorem dX1_prove_21 : decode cX1_prove 21 = .ok (.invokestatic 147, 3) := dk_184 0 147 (dk_at dksX1_prove_0 21 rfl rfl)
theorem dX1_prove_24 : decode cX1_prove 24 = .ok (.aload 5, 2) := dk_25 5 (dk_at dksX1_prove_1 0 rfl rfl)
theorem dX1_prove_26 : decode cX1_prove 26 = .ok (.invokevirtual 276, 3) := dk_182 1 20 (dk_at dksX1_prove_1 2 rfl rfl)
theorem dX1_prove_29 : decode cX1_prove 29 = .ok (.ifCond .ne 7, 3) := dk_154 0 7 (dk_at dksX1_prove_1 5 rfl rfl)
theorem dX1_prove_32 : decode cX1_prove 32 = .ok (.iconst 1, 1) := dk_4 (dk_at dksX1_prove_1 8 rfl rfl)
theorem dX1_prove_33 : decode cX1_prove 33 = .ok (.goto 4, 3) := dk_167 0 4 (dk_at dksX1_prove_1 9 rfl rfl)
theorem dX1_prove_36 : decode cX1_prove 36 = .ok (.iconst 0, 1) := dk_3 (dk_at dksX1_prove_1 12 rfl rfl)
theorem dX1_prove_37 : decode cX1_prove 37 = .ok (.invokestatic 176, 3) := dk_184 0 176 (dk_at dksX1_prove_1 13 rfl rfl)
theorem dX1_prove_40 : decode cX1_prove 40 = .ok (.aload 6, 2) := dk_25 6 (dk_at dksX1_prove_1 16 rfl rfl)
theorem dX1_prove_42 : decode cX1_prove 42 = .ok (.aload 5, 2) := dk_25 5 (dk_at dksX1_prove_1 18 rfl rfl)
theorem dX1_prove_44 : decode cX1_prove 44 = .ok (.getfield 166, 3) := dk_180 0 166 (dk_at dksX1_prove_1 20 rfl rfl)
theorem dX1_prove_47 : decode cX1_prove 47 = .ok (.iload_n 3, 1) := dk_29 (dk_at dksX1_prove_1 23 rfl rfl)
theorem dX1_prove_48 : decode cX1_prove 48 = .ok (.iload 4, 2) := dk_21 4 (dk_at dksX1_prove_2 0 rfl rfl)
theorem dX1_prove_50 : decode cX1_prove 50 = .ok (.invokevirtual 279, 3) := dk_182 1 23 (dk_at dksX1_prove_2 2 rfl rfl)
theorem dX1_prove_53 : decode cX1_prove 53 = .ok (.istore 7, 2) := dk_54 7 (dk_at dksX1_prove_2 5 rfl rfl)
theorem dX1_prove_55 : decode cX1_prove 55 = .ok (.aload_n 0, 1) := dk_42 (dk_at dksX1_prove_2 7 rfl rfl)
theorem dX1_prove_56 : decode cX1_prove 56 = .ok (.iload 7, 2) := dk_21 7 (dk_at dksX1_prove_2 8 rfl rfl)
theorem dX1_prove_58 : decode cX1_prove 58 = .ok (.invokevirtual 283, 3) := dk_182 1 27 (dk_at dksX1_prove_2 10 rfl rfl)
theorem dX1_prove_61 : decode cX1_prove 61 = .ok (.iload 7, 2) := dk_21 7 (dk_at dksX1_prove_2 13 rfl rfl)
theorem dX1_prove_63 : decode cX1_prove 63 = .ok (.ifCond .eq 13, 3) := dk_153 0 13 (dk_at dksX1_prove_2 15 rfl rfl)
theorem dX1_prove_66 : decode cX1_prove 66 = .ok (.aload 5, 2) := dk_25 5 (dk_at dksX1_prove_2 18 rfl rfl)
theorem dX1_prove_68 : decode cX1_prove 68 = .ok (.aload 6, 2) := dk_25 6 (dk_at dksX1_prove_2 20 rfl rfl)
theorem dX1_prove_70 : decode cX1_prove 70 = .ok (.iload_n 3, 1) := dk_29 (dk_at dksX1_prove_2 22 rfl rfl)
theorem dX1_prove_71 : decode cX1_prove 71 = .ok (.iload 4, 2) := dk_21 4 (dk_at dksX1_prove_3 0 rfl rfl)
theorem dX1_prove_73 : decode cX1_prove 73 = .ok (.invokevirtual 286, 3) := dk_182 1 30 (dk_at dksX1_prove_3 2 rfl rfl)
theorem dX1_prove_76 : decode cX1_prove 76 = .ok (.iload 7, 2) := dk_21 7 (dk_at dksX1_prove_3 5 rfl rfl)
theorem dX1_prove_78 : decode cX1_prove 78 = .ok (.ireturn, 1) := dk_172 (dk_at dksX1_prove_3 7 rfl rfl)
abbrev cX1_isCycle_2 : ByteArray := prog_1_method_1_code
def yX1_isCycle_2 : MethodName := ⟨RX1, "isCycle", "(LHaltingale$Table;II)Z"⟩
def dkwX1_isCycle_2_5 : List UInt8 := [3, 172]
abbrev dktX1_isCycle_2_5 : List UInt8 := dkwX1_isCycle_2_5 ++ []
def dkwX1_isCycle_2_4 : List UInt8 := [25, 4, 187, 0, 13, 89, 45, 183, 0, 15, 21, 5, 21, 6, 182, 0, 42, 153, 0, 7, 4, 167, 0, 4]
abbrev dktX1_isCycle_2_4 : List UInt8 := dkwX1_isCycle_2_4 ++ dktX1_isCycle_2_5
def dkwX1_isCycle_2_3 : List UInt8 := [180, 0, 18, 184, 0, 36, 54, 6, 132, 7, 1, 167, 255, 214, 45, 180, 0, 39, 27, 28, 96, 160, 0, 27]
abbrev dktX1_isCycle_2_3 : List UInt8 := dkwX1_isCycle_2_3 ++ dktX1_isCycle_2_4
def dkwX1_isCycle_2_2 : List UInt8 := [182, 0, 22, 153, 0, 35, 45, 182, 0, 26, 21, 5, 45, 180, 0, 18, 184, 0, 30, 54, 5, 21, 6, 45]
abbrev dktX1_isCycle_2_2 : List UInt8 := dkwX1_isCycle_2_2 ++ dktX1_isCycle_2_3
def dkwX1_isCycle_2_1 : List UInt8 := [58, 4, 45, 180, 0, 18, 54, 5, 45, 180, 0, 18, 54, 6, 3, 54, 7, 21, 7, 28, 162, 0, 42, 45]
abbrev dktX1_isCycle_2_1 : List UInt8 := dkwX1_isCycle_2_1 ++ dktX1_isCycle_2_2
def dkwX1_isCycle_2_0 : List UInt8 := [187, 0, 3, 89, 42, 27, 28, 96, 183, 0, 5, 27, 182, 0, 9, 78, 187, 0, 13, 89, 45, 183, 0, 15]
abbrev dktX1_isCycle_2_0 : List UInt8 := dkwX1_isCycle_2_0 ++ dktX1_isCycle_2_1
theorem dksX1_isCycle_2_0 : cX1_isCycle_2.data.toList.drop 0 = dktX1_isCycle_2_0 := by decide +kernel
theorem dksX1_isCycle_2_1 : cX1_isCycle_2.data.toList.drop 24 = dktX1_isCycle_2_1 := dk_seg dksX1_isCycle_2_0 24 rfl rfl
theorem dksX1_isCycle_2_2 : cX1_isCycle_2.data.toList.drop 48 = dktX1_isCycle_2_2 := dk_seg dksX1_isCycle_2_1 24 rfl rfl
theorem dksX1_isCycle_2_3 : cX1_isCycle_2.data.toList.drop 72 = dktX1_isCycle_2_3 := dk_seg dksX1_isCycle_2_2 24 rfl rfl
theorem dksX1_isCycle_2_4 : cX1_isCycle_2.data.toList.drop 96 = dktX1_isCycle_2_4 := dk_seg dksX1_isCycle_2_3 24 rfl rfl
theorem dksX1_isCycle_2_5 : cX1_isCycle_2.data.toList.drop 120 = dktX1_isCycle_2_5 := dk_seg dksX1_isCycle_2_4 24 rfl rfl
theorem dX1_isCycle_2_0 : decode cX1_isCycle_2 0 = .ok (.new 3, 3) := dk_187 0 3 (dk_at dksX1_isCycle_2_0 0 rfl rfl)
theorem dX1_isCycle_2_3 : decode cX1_isCycle_2 3 = .ok (.dup, 1) := dk_89 (dk_at dksX1_isCycle_2_0 3 rfl rfl)
theorem dX1_isCycle_2_4 : decode cX1_isCycle_2 4 = .ok (.aload_n 0, 1) := dk_42 (dk_at dksX1_isCycle_2_0 4 rfl rfl)
theorem dX1_isCycle_2_5 : decode cX1_isCycle_2 5 = .ok (.iload_n 1, 1) := dk_27 (dk_at dksX1_isCycle_2_0 5 rfl rfl)
theorem dX1_isCycle_2_6 : decode cX1_isCycle_2 6 = .ok (.iload_n 2, 1) := dk_28 (dk_at dksX1_isCycle_2_0 6 rfl rfl)
theorem dX1_isCycle_2_7 : decode cX1_isCycle_2 7 = .ok (.iadd, 1) := dk_96 (dk_at dksX1_isCycle_2_0 7 rfl rfl)
theorem dX1_isCycle_2_8 : decode cX1_isCycle_2 8 = .ok (.invokespecial 5, 3) := dk_183 0 5 (dk_at dksX1_isCycle_2_0 8 rfl rfl)
theorem dX1_isCycle_2_11 : decode cX1_isCycle_2 11 = .ok (.iload_n 1, 1) := dk_27 (dk_at dksX1_isCycle_2_0 11 rfl rfl)
theorem dX1_isCycle_2_12 : decode cX1_isCycle_2 12 = .ok (.invokevirtual 9, 3) := dk_182 0 9 (dk_at dksX1_isCycle_2_0 12 rfl rfl)
theorem dX1_isCycle_2_15 : decode cX1_isCycle_2 15 = .ok (.astore_n 3, 1) := dk_78 (dk_at dksX1_isCycle_2_0 15 rfl rfl)
theorem dX1_isCycle_2_16 : decode cX1_isCycle_2 16 = .ok (.new 13, 3) := dk_187 0 13 (dk_at dksX1_isCycle_2_0 16 rfl rfl)
theorem dX1_isCycle_2_19 : decode cX1_isCycle_2 19 = .ok (.dup, 1) := dk_89 (dk_at dksX1_isCycle_2_0 19 rfl rfl)
theorem dX1_isCycle_2_20 : decode cX1_isCycle_2 20 = .ok (.aload_n 3, 1) := dk_45 (dk_at dksX1_isCycle_2_0 20 rfl rfl)
theorem dX1_isCycle_2_21 : decode cX1_isCycle_2 21 = .ok (.invokespecial 15, 3) := dk_183 0 15 (dk_at dksX1_isCycle_2_0 21 rfl rfl)
theorem dX1_isCycle_2_24 : decode cX1_isCycle_2 24 = .ok (.astore 4, 2) := dk_58 4 (dk_at dksX1_isCycle_2_1 0 rfl rfl)
theorem dX1_isCycle_2_26 : decode cX1_isCycle_2 26 = .ok (.aload_n 3, 1) := dk_45 (dk_at dksX1_isCycle_2_1 2 rfl rfl)
theorem dX1_isCycle_2_27 : decode cX1_isCycle_2 27 = .ok (.getfield 18, 3) := dk_180 0 18 (dk_at dksX1_isCycle_2_1 3 rfl rfl)
theorem dX1_isCycle_2_30 : decode cX1_isCycle_2 30 = .ok (.istore 5, 2) := dk_54 5 (dk_at dksX1_isCycle_2_1 6 rfl rfl)
theorem dX1_isCycle_2_32 : decode cX1_isCycle_2 32 = .ok (.aload_n 3, 1) := dk_45 (dk_at dksX1_isCycle_2_1 8 rfl rfl)
theorem dX1_isCycle_2_33 : decode cX1_isCycle_2 33 = .ok (.getfield 18, 3) := dk_180 0 18 (dk_at dksX1_isCycle_2_1 9 rfl rfl)
theorem dX1_isCycle_2_36 : decode cX1_isCycle_2 36 = .ok (.istore 6, 2) := dk_54 6 (dk_at dksX1_isCycle_2_1 12 rfl rfl)
theorem dX1_isCycle_2_38 : decode cX1_isCycle_2 38 = .ok (.iconst 0, 1) := dk_3 (dk_at dksX1_isCycle_2_1 14 rfl rfl)
theorem dX1_isCycle_2_39 : decode cX1_isCycle_2 39 = .ok (.istore 7, 2) := dk_54 7 (dk_at dksX1_isCycle_2_1 15 rfl rfl)
theorem dX1_isCycle_2_41 : decode cX1_isCycle_2 41 = .ok (.iload 7, 2) := dk_21 7 (dk_at dksX1_isCycle_2_1 17 rfl rfl)
theorem dX1_isCycle_2_43 : decode cX1_isCycle_2 43 = .ok (.iload_n 2, 1) := dk_28 (dk_at dksX1_isCycle_2_1 19 rfl rfl)
theorem dX1_isCycle_2_44 : decode cX1_isCycle_2 44 = .ok (.if_icmp .ge 42, 3) := dk_162 0 42 (dk_at dksX1_isCycle_2_1 20 rfl rfl)
theorem dX1_isCycle_2_47 : decode cX1_isCycle_2 47 = .ok (.aload_n 3, 1) := dk_45 (dk_at dksX1_isCycle_2_1 23 rfl rfl)
theorem dX1_isCycle_2_48 : decode cX1_isCycle_2 48 = .ok (.invokevirtual 22, 3) := dk_182 0 22 (dk_at dksX1_isCycle_2_2 0 rfl rfl)
theorem dX1_isCycle_2_51 : decode cX1_isCycle_2 51 = .ok (.ifCond .eq 35, 3) := dk_153 0 35 (dk_at dksX1_isCycle_2_2 3 rfl rfl)
theorem dX1_isCycle_2_54 : decode cX1_isCycle_2 54 = .ok (.aload_n 3, 1) := dk_45 (dk_at dksX1_isCycle_2_2 6 rfl rfl)
theorem dX1_isCycle_2_55 : decode cX1_isCycle_2 55 = .ok (.invokevirtual 26, 3) := dk_182 0 26 (dk_at dksX1_isCycle_2_2 7 rfl rfl)
theorem dX1_isCycle_2_58 : decode cX1_isCycle_2 58 = .ok (.iload 5, 2) := dk_21 5 (dk_at dksX1_isCycle_2_2 10 rfl rfl)
theorem dX1_isCycle_2_60 : decode cX1_isCycle_2 60 = .ok (.aload_n 3, 1) := dk_45 (dk_at dksX1_isCycle_2_2 12 rfl rfl)
theorem dX1_isCycle_2_61 : decode cX1_isCycle_2 61 = .ok (.getfield 18, 3) := dk_180 0 18 (dk_at dksX1_isCycle_2_2 13 rfl rfl)
theorem dX1_isCycle_2_64 : decode cX1_isCycle_2 64 = .ok (.invokestatic 30, 3) := dk_184 0 30 (dk_at dksX1_isCycle_2_2 16 rfl rfl)
theorem dX1_isCycle_2_67 : decode cX1_isCycle_2 67 = .ok (.istore 5, 2) := dk_54 5 (dk_at dksX1_isCycle_2_2 19 rfl rfl)
theorem dX1_isCycle_2_69 : decode cX1_isCycle_2 69 = .ok (.iload 6, 2) := dk_21 6 (dk_at dksX1_isCycle_2_2 21 rfl rfl)
theorem dX1_isCycle_2_71 : decode cX1_isCycle_2 71 = .ok (.aload_n 3, 1) := dk_45 (dk_at dksX1_isCycle_2_2 23 rfl rfl)
theorem dX1_isCycle_2_72 : decode cX1_isCycle_2 72 = .ok (.getfield 18, 3) := dk_180 0 18 (dk_at dksX1_isCycle_2_3 0 rfl rfl)
theorem dX1_isCycle_2_75 : decode cX1_isCycle_2 75 = .ok (.invokestatic 36, 3) := dk_184 0 36 (dk_at dksX1_isCycle_2_3 3 rfl rfl)
theorem dX1_isCycle_2_78 : decode cX1_isCycle_2 78 = .ok (.istore 6, 2) := dk_54 6 (dk_at dksX1_isCycle_2_3 6 rfl rfl)
theorem dX1_isCycle_2_80 : decode cX1_isCycle_2 80 = .ok (.iinc 7 1, 3) := dk_132 7 1 (dk_at dksX1_isCycle_2_3 8 rfl rfl)
theorem dX1_isCycle_2_83 : decode cX1_isCycle_2 83 = .ok (.goto (-42), 3) := dk_167 255 214 (dk_at dksX1_isCycle_2_3 11 rfl rfl)
theorem dX1_isCycle_2_86 : decode cX1_isCycle_2 86 = .ok (.aload_n 3, 1) := dk_45 (dk_at dksX1_isCycle_2_3 14 rfl rfl)
theorem dX1_isCycle_2_87 : decode cX1_isCycle_2 87 = .ok (.getfield 39, 3) := dk_180 0 39 (dk_at dksX1_isCycle_2_3 15 rfl rfl)
theorem dX1_isCycle_2_90 : decode cX1_isCycle_2 90 = .ok (.iload_n 1, 1) := dk_27 (dk_at dksX1_isCycle_2_3 18 rfl rfl)
theorem dX1_isCycle_2_91 : decode cX1_isCycle_2 91 = .ok (.iload_n 2, 1) := dk_28 (dk_at dksX1_isCycle_2_3 19 rfl rfl)
theorem dX1_isCycle_2_92 : decode cX1_isCycle_2 92 = .ok (.iadd, 1) := dk_96 (dk_at dksX1_isCycle_2_3 20 rfl rfl)
theorem dX1_isCycle_2_93 : decode cX1_isCycle_2 93 = .ok (.if_icmp .ne 27, 3) := dk_160 0 27 (dk_at dksX1_isCycle_2_3 21 rfl rfl)
theorem dX1_isCycle_2_96 : decode cX1_isCycle_2 96 = .ok (.aload 4, 2) := dk_25 4 (dk_at dksX1_isCycle_2_4 0 rfl rfl)
theorem dX1_isCycle_2_98 : decode cX1_isCycle_2 98 = .ok (.new 13, 3) := dk_187 0 13 (dk_at dksX1_isCycle_2_4 2 rfl rfl)
theorem dX1_isCycle_2_101 : decode cX1_isCycle_2 101 = .ok (.dup, 1) := dk_89 (dk_at dksX1_isCycle_2_4 5 rfl rfl)
theorem dX1_isCycle_2_102 : decode cX1_isCycle_2 102 = .ok (.aload_n 3, 1) := dk_45 (dk_at dksX1_isCycle_2_4 6 rfl rfl)
theorem dX1_isCycle_2_103 : decode cX1_isCycle_2 103 = .ok (.invokespecial 15, 3) := dk_183 0 15 (dk_at dksX1_isCycle_2_4 7 rfl rfl)
theorem dX1_isCycle_2_106 : decode cX1_isCycle_2 106 = .ok (.iload 5, 2) := dk_21 5 (dk_at dksX1_isCycle_2_4 10 rfl rfl)
theorem dX1_isCycle_2_108 : decode cX1_isCycle_2 108 = .ok (.iload 6, 2) := dk_21 6 (dk_at dksX1_isCycle_2_4 12 rfl rfl)
theorem dX1_isCycle_2_110 : decode cX1_isCycle_2 110 = .ok (.invokevirtual 42, 3) := dk_182 0 42 (dk_at dksX1_isCycle_2_4 14 rfl rfl)
theorem dX1_isCycle_2_113 : decode cX1_isCycle_2 113 = .ok (.ifCond .eq 7, 3) := dk_153 0 7 (dk_at dksX1_isCycle_2_4 17 rfl rfl)
theorem dX1_isCycle_2_116 : decode cX1_isCycle_2 116 = .ok (.iconst 1, 1) := dk_4 (dk_at dksX1_isCycle_2_4 20 rfl rfl)
theorem dX1_isCycle_2_117 : decode cX1_isCycle_2 117 = .ok (.goto 4, 3) := dk_167 0 4 (dk_at dksX1_isCycle_2_4 21 rfl rfl)
theorem dX1_isCycle_2_120 : decode cX1_isCycle_2 120 = .ok (.iconst 0, 1) := dk_3 (dk_at dksX1_isCycle_2_5 0 rfl rfl)
theorem dX1_isCycle_2_121 : decode cX1_isCycle_2 121 = .ok (.ireturn, 1) := dk_172 (dk_at dksX1_isCycle_2_5 1 rfl rfl)
abbrev cX1_enter : ByteArray := prog_1_method_24_code
def yX1_enter : MethodName := ⟨RX1, "enter", "(Z)V"⟩
def dkwX1_enter_2 : List UInt8 := [182, 0, 194, 167, 0, 17, 77, 42, 180, 0, 140, 89, 180, 0, 251, 4, 96, 181, 0, 251, 177]
abbrev dktX1_enter_2 : List UInt8 := dkwX1_enter_2 ++ []
def dkwX1_enter_1 : List UInt8 := [42, 180, 0, 140, 182, 0, 246, 44, 195, 167, 0, 8, 78, 44, 195, 45, 191, 177, 42, 180, 0, 140]
abbrev dktX1_enter_1 : List UInt8 := dkwX1_enter_1 ++ dktX1_enter_2
def dkwX1_enter_0 : List UInt8 := [27, 153, 0, 41, 42, 180, 0, 140, 89, 77, 194, 42, 180, 0, 140, 89, 180, 0, 243, 4, 96, 181, 0, 243]
abbrev dktX1_enter_0 : List UInt8 := dkwX1_enter_0 ++ dktX1_enter_1
theorem dksX1_enter_0 : cX1_enter.data.toList.drop 0 = dktX1_enter_0 := by decide +kernel
theorem dksX1_enter_1 : cX1_enter.data.toList.drop 24 = dktX1_enter_1 := dk_seg dksX1_enter_0 24 rfl rfl
theorem dksX1_enter_2 : cX1_enter.data.toList.drop 46 = dktX1_enter_2 := dk_seg dksX1_enter_1 22 rfl rfl
theorem dX1_enter_0 : decode cX1_enter 0 = .ok (.iload_n 1, 1) := dk_27 (dk_at dksX1_enter_0 0 rfl rfl)
theorem dX1_enter_1 : decode cX1_enter 1 = .ok (.ifCond .eq 41, 3) := dk_153 0 41 (dk_at dksX1_enter_0 1 rfl rfl)
theorem dX1_enter_4 : decode cX1_enter 4 = .ok (.aload_n 0, 1) := dk_42 (dk_at dksX1_enter_0 4 rfl rfl)
theorem dX1_enter_5 : decode cX1_enter 5 = .ok (.getfield 140, 3) := dk_180 0 140 (dk_at dksX1_enter_0 5 rfl rfl)
theorem dX1_enter_8 : decode cX1_enter 8 = .ok (.dup, 1) := dk_89 (dk_at dksX1_enter_0 8 rfl rfl)
theorem dX1_enter_9 : decode cX1_enter 9 = .ok (.astore_n 2, 1) := dk_77 (dk_at dksX1_enter_0 9 rfl rfl)
theorem dX1_enter_10 : decode cX1_enter 10 = .ok (.monitorenter, 1) := dk_194 (dk_at dksX1_enter_0 10 rfl rfl)
theorem dX1_enter_11 : decode cX1_enter 11 = .ok (.aload_n 0, 1) := dk_42 (dk_at dksX1_enter_0 11 rfl rfl)
theorem dX1_enter_12 : decode cX1_enter 12 = .ok (.getfield 140, 3) := dk_180 0 140 (dk_at dksX1_enter_0 12 rfl rfl)
theorem dX1_enter_15 : decode cX1_enter 15 = .ok (.dup, 1) := dk_89 (dk_at dksX1_enter_0 15 rfl rfl)
theorem dX1_enter_16 : decode cX1_enter 16 = .ok (.getfield 243, 3) := dk_180 0 243 (dk_at dksX1_enter_0 16 rfl rfl)
theorem dX1_enter_19 : decode cX1_enter 19 = .ok (.iconst 1, 1) := dk_4 (dk_at dksX1_enter_0 19 rfl rfl)
theorem dX1_enter_20 : decode cX1_enter 20 = .ok (.iadd, 1) := dk_96 (dk_at dksX1_enter_0 20 rfl rfl)
theorem dX1_enter_21 : decode cX1_enter 21 = .ok (.putfield 243, 3) := dk_181 0 243 (dk_at dksX1_enter_0 21 rfl rfl)
theorem dX1_enter_24 : decode cX1_enter 24 = .ok (.aload_n 0, 1) := dk_42 (dk_at dksX1_enter_1 0 rfl rfl)
theorem dX1_enter_25 : decode cX1_enter 25 = .ok (.getfield 140, 3) := dk_180 0 140 (dk_at dksX1_enter_1 1 rfl rfl)
theorem dX1_enter_28 : decode cX1_enter 28 = .ok (.invokevirtual 246, 3) := dk_182 0 246 (dk_at dksX1_enter_1 4 rfl rfl)
theorem dX1_enter_31 : decode cX1_enter 31 = .ok (.aload_n 2, 1) := dk_44 (dk_at dksX1_enter_1 7 rfl rfl)
theorem dX1_enter_32 : decode cX1_enter 32 = .ok (.monitorexit, 1) := dk_195 (dk_at dksX1_enter_1 8 rfl rfl)
theorem dX1_enter_33 : decode cX1_enter 33 = .ok (.goto 8, 3) := dk_167 0 8 (dk_at dksX1_enter_1 9 rfl rfl)
theorem dX1_enter_36 : decode cX1_enter 36 = .ok (.astore_n 3, 1) := dk_78 (dk_at dksX1_enter_1 12 rfl rfl)
theorem dX1_enter_37 : decode cX1_enter 37 = .ok (.aload_n 2, 1) := dk_44 (dk_at dksX1_enter_1 13 rfl rfl)
theorem dX1_enter_38 : decode cX1_enter 38 = .ok (.monitorexit, 1) := dk_195 (dk_at dksX1_enter_1 14 rfl rfl)
theorem dX1_enter_39 : decode cX1_enter 39 = .ok (.aload_n 3, 1) := dk_45 (dk_at dksX1_enter_1 15 rfl rfl)
theorem dX1_enter_40 : decode cX1_enter 40 = .ok (.athrow, 1) := dk_191 (dk_at dksX1_enter_1 16 rfl rfl)
theorem dX1_enter_41 : decode cX1_enter 41 = .ok (.return_, 1) := dk_177 (dk_at dksX1_enter_1 17 rfl rfl)
theorem dX1_enter_42 : decode cX1_enter 42 = .ok (.aload_n 0, 1) := dk_42 (dk_at dksX1_enter_1 18 rfl rfl)
theorem dX1_enter_43 : decode cX1_enter 43 = .ok (.getfield 140, 3) := dk_180 0 140 (dk_at dksX1_enter_1 19 rfl rfl)
theorem dX1_enter_46 : decode cX1_enter 46 = .ok (.invokevirtual 194, 3) := dk_182 0 194 (dk_at dksX1_enter_2 0 rfl rfl)
theorem dX1_enter_49 : decode cX1_enter 49 = .ok (.goto 17, 3) := dk_167 0 17 (dk_at dksX1_enter_2 3 rfl rfl)
theorem dX1_enter_52 : decode cX1_enter 52 = .ok (.astore_n 2, 1) := dk_77 (dk_at dksX1_enter_2 6 rfl rfl)
theorem dX1_enter_53 : decode cX1_enter 53 = .ok (.aload_n 0, 1) := dk_42 (dk_at dksX1_enter_2 7 rfl rfl)
theorem dX1_enter_54 : decode cX1_enter 54 = .ok (.getfield 140, 3) := dk_180 0 140 (dk_at dksX1_enter_2 8 rfl rfl)
theorem dX1_enter_57 : decode cX1_enter 57 = .ok (.dup, 1) := dk_89 (dk_at dksX1_enter_2 11 rfl rfl)
theorem dX1_enter_58 : decode cX1_enter 58 = .ok (.getfield 251, 3) := dk_180 0 251 (dk_at dksX1_enter_2 12 rfl rfl)
theorem dX1_enter_61 : decode cX1_enter 61 = .ok (.iconst 1, 1) := dk_4 (dk_at dksX1_enter_2 15 rfl rfl)
theorem dX1_enter_62 : decode cX1_enter 62 = .ok (.iadd, 1) := dk_96 (dk_at dksX1_enter_2 16 rfl rfl)
theorem dX1_enter_63 : decode cX1_enter 63 = .ok (.putfield 251, 3) := dk_181 0 251 (dk_at dksX1_enter_2 17 rfl rfl)
theorem dX1_enter_66 : decode cX1_enter 66 = .ok (.return_, 1) := dk_177 (dk_at dksX1_enter_2 20 rfl rfl)
abbrev cX1_doubt : ByteArray := prog_1_method_27_code
def yX1_doubt : MethodName := ⟨RX1, "doubt", "(I)I"⟩
def dkwX1_doubt_3 : List UInt8 := [96, 62, 132, 4, 1, 167, 255, 189, 29, 172]
abbrev dktX1_doubt_3 : List UInt8 := dkwX1_doubt_3 ++ []
def dkwX1_doubt_2 : List UInt8 := [180, 0, 130, 21, 4, 185, 0, 60, 2, 0, 192, 0, 160, 182, 0, 209, 153, 0, 7, 4, 167, 0, 4, 3]
abbrev dktX1_doubt_2 : List UInt8 := dkwX1_doubt_2 ++ dktX1_doubt_3
def dkwX1_doubt_1 : List UInt8 := [29, 42, 180, 0, 130, 21, 4, 185, 0, 60, 2, 0, 192, 0, 160, 44, 182, 1, 34, 153, 0, 28, 42, 42]
abbrev dktX1_doubt_1 : List UInt8 := dkwX1_doubt_1 ++ dktX1_doubt_2
def dkwX1_doubt_0 : List UInt8 := [27, 184, 1, 13, 77, 3, 62, 3, 54, 4, 21, 4, 42, 180, 0, 130, 185, 0, 56, 1, 0, 162, 0, 59]
abbrev dktX1_doubt_0 : List UInt8 := dkwX1_doubt_0 ++ dktX1_doubt_1
theorem dksX1_doubt_0 : cX1_doubt.data.toList.drop 0 = dktX1_doubt_0 := by decide +kernel
theorem dksX1_doubt_1 : cX1_doubt.data.toList.drop 24 = dktX1_doubt_1 := dk_seg dksX1_doubt_0 24 rfl rfl
theorem dksX1_doubt_2 : cX1_doubt.data.toList.drop 48 = dktX1_doubt_2 := dk_seg dksX1_doubt_1 24 rfl rfl
theorem dksX1_doubt_3 : cX1_doubt.data.toList.drop 72 = dktX1_doubt_3 := dk_seg dksX1_doubt_2 24 rfl rfl
theorem dX1_doubt_0 : decode cX1_doubt 0 = .ok (.iload_n 1, 1) := dk_27 (dk_at dksX1_doubt_0 0 rfl rfl)
theorem dX1_doubt_1 : decode cX1_doubt 1 = .ok (.invokestatic 269, 3) := dk_184 1 13 (dk_at dksX1_doubt_0 1 rfl rfl)
theorem dX1_doubt_4 : decode cX1_doubt 4 = .ok (.astore_n 2, 1) := dk_77 (dk_at dksX1_doubt_0 4 rfl rfl)
theorem dX1_doubt_5 : decode cX1_doubt 5 = .ok (.iconst 0, 1) := dk_3 (dk_at dksX1_doubt_0 5 rfl rfl)
theorem dX1_doubt_6 : decode cX1_doubt 6 = .ok (.istore_n 3, 1) := dk_62 (dk_at dksX1_doubt_0 6 rfl rfl)
theorem dX1_doubt_7 : decode cX1_doubt 7 = .ok (.iconst 0, 1) := dk_3 (dk_at dksX1_doubt_0 7 rfl rfl)
theorem dX1_doubt_8 : decode cX1_doubt 8 = .ok (.istore 4, 2) := dk_54 4 (dk_at dksX1_doubt_0 8 rfl rfl)
theorem dX1_doubt_10 : decode cX1_doubt 10 = .ok (.iload 4, 2) := dk_21 4 (dk_at dksX1_doubt_0 10 rfl rfl)
theorem dX1_doubt_12 : decode cX1_doubt 12 = .ok (.aload_n 0, 1) := dk_42 (dk_at dksX1_doubt_0 12 rfl rfl)
theorem dX1_doubt_13 : decode cX1_doubt 13 = .ok (.getfield 130, 3) := dk_180 0 130 (dk_at dksX1_doubt_0 13 rfl rfl)
theorem dX1_doubt_16 : decode cX1_doubt 16 = .ok (.invokeinterface 56 1, 5) := by decide +kernel
theorem dX1_doubt_21 : decode cX1_doubt 21 = .ok (.if_icmp .ge 59, 3) := dk_162 0 59 (dk_at dksX1_doubt_0 21 rfl rfl)
theorem dX1_doubt_24 : decode cX1_doubt 24 = .ok (.iload_n 3, 1) := dk_29 (dk_at dksX1_doubt_1 0 rfl rfl)
theorem dX1_doubt_25 : decode cX1_doubt 25 = .ok (.aload_n 0, 1) := dk_42 (dk_at dksX1_doubt_1 1 rfl rfl)
theorem dX1_doubt_26 : decode cX1_doubt 26 = .ok (.getfield 130, 3) := dk_180 0 130 (dk_at dksX1_doubt_1 2 rfl rfl)
theorem dX1_doubt_29 : decode cX1_doubt 29 = .ok (.iload 4, 2) := dk_21 4 (dk_at dksX1_doubt_1 5 rfl rfl)
theorem dX1_doubt_31 : decode cX1_doubt 31 = .ok (.invokeinterface 60 2, 5) := by decide +kernel
theorem dX1_doubt_36 : decode cX1_doubt 36 = .ok (.checkcast 160, 3) := dk_192 0 160 (dk_at dksX1_doubt_1 12 rfl rfl)
theorem dX1_doubt_39 : decode cX1_doubt 39 = .ok (.aload_n 2, 1) := dk_44 (dk_at dksX1_doubt_1 15 rfl rfl)
theorem dX1_doubt_40 : decode cX1_doubt 40 = .ok (.invokevirtual 290, 3) := dk_182 1 34 (dk_at dksX1_doubt_1 16 rfl rfl)
theorem dX1_doubt_43 : decode cX1_doubt 43 = .ok (.ifCond .eq 28, 3) := dk_153 0 28 (dk_at dksX1_doubt_1 19 rfl rfl)
theorem dX1_doubt_46 : decode cX1_doubt 46 = .ok (.aload_n 0, 1) := dk_42 (dk_at dksX1_doubt_1 22 rfl rfl)
theorem dX1_doubt_47 : decode cX1_doubt 47 = .ok (.aload_n 0, 1) := dk_42 (dk_at dksX1_doubt_1 23 rfl rfl)
theorem dX1_doubt_48 : decode cX1_doubt 48 = .ok (.getfield 130, 3) := dk_180 0 130 (dk_at dksX1_doubt_2 0 rfl rfl)
theorem dX1_doubt_51 : decode cX1_doubt 51 = .ok (.iload 4, 2) := dk_21 4 (dk_at dksX1_doubt_2 3 rfl rfl)
theorem dX1_doubt_53 : decode cX1_doubt 53 = .ok (.invokeinterface 60 2, 5) := by decide +kernel
theorem dX1_doubt_58 : decode cX1_doubt 58 = .ok (.checkcast 160, 3) := dk_192 0 160 (dk_at dksX1_doubt_2 10 rfl rfl)
theorem dX1_doubt_61 : decode cX1_doubt 61 = .ok (.invokevirtual 209, 3) := dk_182 0 209 (dk_at dksX1_doubt_2 13 rfl rfl)
theorem dX1_doubt_64 : decode cX1_doubt 64 = .ok (.ifCond .eq 7, 3) := dk_153 0 7 (dk_at dksX1_doubt_2 16 rfl rfl)
theorem dX1_doubt_67 : decode cX1_doubt 67 = .ok (.iconst 1, 1) := dk_4 (dk_at dksX1_doubt_2 19 rfl rfl)
theorem dX1_doubt_68 : decode cX1_doubt 68 = .ok (.goto 4, 3) := dk_167 0 4 (dk_at dksX1_doubt_2 20 rfl rfl)
theorem dX1_doubt_71 : decode cX1_doubt 71 = .ok (.iconst 0, 1) := dk_3 (dk_at dksX1_doubt_2 23 rfl rfl)
theorem dX1_doubt_72 : decode cX1_doubt 72 = .ok (.iadd, 1) := dk_96 (dk_at dksX1_doubt_3 0 rfl rfl)
theorem dX1_doubt_73 : decode cX1_doubt 73 = .ok (.istore_n 3, 1) := dk_62 (dk_at dksX1_doubt_3 1 rfl rfl)
theorem dX1_doubt_74 : decode cX1_doubt 74 = .ok (.iinc 4 1, 3) := dk_132 4 1 (dk_at dksX1_doubt_3 2 rfl rfl)
theorem dX1_doubt_77 : decode cX1_doubt 77 = .ok (.goto (-67), 3) := dk_167 255 189 (dk_at dksX1_doubt_3 5 rfl rfl)
theorem dX1_doubt_80 : decode cX1_doubt 80 = .ok (.iload_n 3, 1) := dk_29 (dk_at dksX1_doubt_3 8 rfl rfl)
theorem dX1_doubt_81 : decode cX1_doubt 81 = .ok (.ireturn, 1) := dk_172 (dk_at dksX1_doubt_3 9 rfl rfl)
abbrev cX1_decide : ByteArray := prog_1_method_28_code
def yX1_decide : MethodName := ⟨RX1, "decide", "(I)I"⟩
def dkwX1_decide_7 : List UInt8 := [182, 1, 56, 167, 0, 4, 2, 172]
abbrev dktX1_decide_7 : List UInt8 := dkwX1_decide_7 ++ []
def dkwX1_decide_6 : List UInt8 := [21, 6, 3, 182, 1, 30, 44, 182, 1, 20, 153, 0, 19, 44, 180, 1, 52, 182, 0, 104, 192, 0, 255]
abbrev dktX1_decide_6 : List UInt8 := dkwX1_decide_6 ++ dktX1_decide_7
def dkwX1_decide_5 : List UInt8 := [44, 178, 1, 7, 21, 5, 3, 182, 1, 30, 167, 0, 19, 21, 6, 2, 159, 0, 13, 44, 178, 1, 10]
abbrev dktX1_decide_5 : List UInt8 := dkwX1_decide_5 ++ dktX1_decide_6
def dkwX1_decide_4 : List UInt8 := [21, 4, 17, 0, 200, 108, 21, 4, 17, 0, 200, 112, 182, 1, 30, 167, 0, 38, 21, 5, 2, 159, 0, 16]
abbrev dktX1_decide_4 : List UInt8 := dkwX1_decide_4 ++ dktX1_decide_5
def dkwX1_decide_3 : List UInt8 := [178, 0, 254, 45, 180, 0, 39, 3, 182, 1, 30, 167, 0, 66, 21, 4, 2, 159, 0, 25, 44, 178, 1, 4]
abbrev dktX1_decide_3 : List UInt8 := dkwX1_decide_3 ++ dktX1_decide_4
def dkwX1_decide_2 : List UInt8 := [184, 1, 42, 54, 5, 44, 180, 0, 166, 184, 1, 46, 54, 6, 45, 182, 1, 49, 153, 0, 18, 44]
abbrev dktX1_decide_2 : List UInt8 := dkwX1_decide_2 ++ dktX1_decide_3
def dkwX1_decide_1 : List UInt8 := [17, 1, 244, 184, 0, 222, 78, 44, 180, 0, 166, 16, 30, 184, 1, 38, 54, 4, 44, 180, 0, 166]
abbrev dktX1_decide_1 : List UInt8 := dkwX1_decide_1 ++ dktX1_decide_2
def dkwX1_decide_0 : List UInt8 := [42, 27, 182, 0, 162, 77, 44, 182, 1, 20, 154, 0, 7, 4, 167, 0, 4, 3, 184, 0, 176, 44]
abbrev dktX1_decide_0 : List UInt8 := dkwX1_decide_0 ++ dktX1_decide_1
theorem dksX1_decide_0 : cX1_decide.data.toList.drop 0 = dktX1_decide_0 := by decide +kernel
theorem dksX1_decide_1 : cX1_decide.data.toList.drop 22 = dktX1_decide_1 := dk_seg dksX1_decide_0 22 rfl rfl
theorem dksX1_decide_2 : cX1_decide.data.toList.drop 44 = dktX1_decide_2 := dk_seg dksX1_decide_1 22 rfl rfl
theorem dksX1_decide_3 : cX1_decide.data.toList.drop 66 = dktX1_decide_3 := dk_seg dksX1_decide_2 22 rfl rfl
theorem dksX1_decide_4 : cX1_decide.data.toList.drop 90 = dktX1_decide_4 := dk_seg dksX1_decide_3 24 rfl rfl
theorem dksX1_decide_5 : cX1_decide.data.toList.drop 114 = dktX1_decide_5 := dk_seg dksX1_decide_4 24 rfl rfl
theorem dksX1_decide_6 : cX1_decide.data.toList.drop 137 = dktX1_decide_6 := dk_seg dksX1_decide_5 23 rfl rfl
theorem dksX1_decide_7 : cX1_decide.data.toList.drop 160 = dktX1_decide_7 := dk_seg dksX1_decide_6 23 rfl rfl
theorem dX1_decide_0 : decode cX1_decide 0 = .ok (.aload_n 0, 1) := dk_42 (dk_at dksX1_decide_0 0 rfl rfl)
theorem dX1_decide_1 : decode cX1_decide 1 = .ok (.iload_n 1, 1) := dk_27 (dk_at dksX1_decide_0 1 rfl rfl)
theorem dX1_decide_2 : decode cX1_decide 2 = .ok (.invokevirtual 162, 3) := dk_182 0 162 (dk_at dksX1_decide_0 2 rfl rfl)
theorem dX1_decide_5 : decode cX1_decide 5 = .ok (.astore_n 2, 1) := dk_77 (dk_at dksX1_decide_0 5 rfl rfl)
theorem dX1_decide_6 : decode cX1_decide 6 = .ok (.aload_n 2, 1) := dk_44 (dk_at dksX1_decide_0 6 rfl rfl)
theorem dX1_decide_7 : decode cX1_decide 7 = .ok (.invokevirtual 276, 3) := dk_182 1 20 (dk_at dksX1_decide_0 7 rfl rfl)
theorem dX1_decide_10 : decode cX1_decide 10 = .ok (.ifCond .ne 7, 3) := dk_154 0 7 (dk_at dksX1_decide_0 10 rfl rfl)
theorem dX1_decide_13 : decode cX1_decide 13 = .ok (.iconst 1, 1) := dk_4 (dk_at dksX1_decide_0 13 rfl rfl)
theorem dX1_decide_14 : decode cX1_decide 14 = .ok (.goto 4, 3) := dk_167 0 4 (dk_at dksX1_decide_0 14 rfl rfl)
theorem dX1_decide_17 : decode cX1_decide 17 = .ok (.iconst 0, 1) := dk_3 (dk_at dksX1_decide_0 17 rfl rfl)
theorem dX1_decide_18 : decode cX1_decide 18 = .ok (.invokestatic 176, 3) := dk_184 0 176 (dk_at dksX1_decide_0 18 rfl rfl)
theorem dX1_decide_21 : decode cX1_decide 21 = .ok (.aload_n 2, 1) := dk_44 (dk_at dksX1_decide_0 21 rfl rfl)
theorem dX1_decide_22 : decode cX1_decide 22 = .ok (.sipush 500, 3) := dk_17 1 244 (dk_at dksX1_decide_1 0 rfl rfl)
theorem dX1_decide_25 : decode cX1_decide 25 = .ok (.invokestatic 222, 3) := dk_184 0 222 (dk_at dksX1_decide_1 3 rfl rfl)
theorem dX1_decide_28 : decode cX1_decide 28 = .ok (.astore_n 3, 1) := dk_78 (dk_at dksX1_decide_1 6 rfl rfl)
theorem dX1_decide_29 : decode cX1_decide 29 = .ok (.aload_n 2, 1) := dk_44 (dk_at dksX1_decide_1 7 rfl rfl)
theorem dX1_decide_30 : decode cX1_decide 30 = .ok (.getfield 166, 3) := dk_180 0 166 (dk_at dksX1_decide_1 8 rfl rfl)
theorem dX1_decide_33 : decode cX1_decide 33 = .ok (.bipush 30, 2) := dk_16 30 (dk_at dksX1_decide_1 11 rfl rfl)
theorem dX1_decide_35 : decode cX1_decide 35 = .ok (.invokestatic 294, 3) := dk_184 1 38 (dk_at dksX1_decide_1 13 rfl rfl)
theorem dX1_decide_38 : decode cX1_decide 38 = .ok (.istore 4, 2) := dk_54 4 (dk_at dksX1_decide_1 16 rfl rfl)
theorem dX1_decide_40 : decode cX1_decide 40 = .ok (.aload_n 2, 1) := dk_44 (dk_at dksX1_decide_1 18 rfl rfl)
theorem dX1_decide_41 : decode cX1_decide 41 = .ok (.getfield 166, 3) := dk_180 0 166 (dk_at dksX1_decide_1 19 rfl rfl)
theorem dX1_decide_44 : decode cX1_decide 44 = .ok (.invokestatic 298, 3) := dk_184 1 42 (dk_at dksX1_decide_2 0 rfl rfl)
theorem dX1_decide_47 : decode cX1_decide 47 = .ok (.istore 5, 2) := dk_54 5 (dk_at dksX1_decide_2 3 rfl rfl)
theorem dX1_decide_49 : decode cX1_decide 49 = .ok (.aload_n 2, 1) := dk_44 (dk_at dksX1_decide_2 5 rfl rfl)
theorem dX1_decide_50 : decode cX1_decide 50 = .ok (.getfield 166, 3) := dk_180 0 166 (dk_at dksX1_decide_2 6 rfl rfl)
theorem dX1_decide_53 : decode cX1_decide 53 = .ok (.invokestatic 302, 3) := dk_184 1 46 (dk_at dksX1_decide_2 9 rfl rfl)
theorem dX1_decide_56 : decode cX1_decide 56 = .ok (.istore 6, 2) := dk_54 6 (dk_at dksX1_decide_2 12 rfl rfl)
theorem dX1_decide_58 : decode cX1_decide 58 = .ok (.aload_n 3, 1) := dk_45 (dk_at dksX1_decide_2 14 rfl rfl)
theorem dX1_decide_59 : decode cX1_decide 59 = .ok (.invokevirtual 305, 3) := dk_182 1 49 (dk_at dksX1_decide_2 15 rfl rfl)
theorem dX1_decide_62 : decode cX1_decide 62 = .ok (.ifCond .eq 18, 3) := dk_153 0 18 (dk_at dksX1_decide_2 18 rfl rfl)
theorem dX1_decide_65 : decode cX1_decide 65 = .ok (.aload_n 2, 1) := dk_44 (dk_at dksX1_decide_2 21 rfl rfl)
theorem dX1_decide_66 : decode cX1_decide 66 = .ok (.getstatic 254, 3) := dk_178 0 254 (dk_at dksX1_decide_3 0 rfl rfl)
theorem dX1_decide_69 : decode cX1_decide 69 = .ok (.aload_n 3, 1) := dk_45 (dk_at dksX1_decide_3 3 rfl rfl)
theorem dX1_decide_70 : decode cX1_decide 70 = .ok (.getfield 39, 3) := dk_180 0 39 (dk_at dksX1_decide_3 4 rfl rfl)
theorem dX1_decide_73 : decode cX1_decide 73 = .ok (.iconst 0, 1) := dk_3 (dk_at dksX1_decide_3 7 rfl rfl)
theorem dX1_decide_74 : decode cX1_decide 74 = .ok (.invokevirtual 286, 3) := dk_182 1 30 (dk_at dksX1_decide_3 8 rfl rfl)
theorem dX1_decide_77 : decode cX1_decide 77 = .ok (.goto 66, 3) := dk_167 0 66 (dk_at dksX1_decide_3 11 rfl rfl)
theorem dX1_decide_80 : decode cX1_decide 80 = .ok (.iload 4, 2) := dk_21 4 (dk_at dksX1_decide_3 14 rfl rfl)
theorem dX1_decide_82 : decode cX1_decide 82 = .ok (.iconst (-1), 1) := dk_2 (dk_at dksX1_decide_3 16 rfl rfl)
theorem dX1_decide_83 : decode cX1_decide 83 = .ok (.if_icmp .eq 25, 3) := dk_159 0 25 (dk_at dksX1_decide_3 17 rfl rfl)
theorem dX1_decide_86 : decode cX1_decide 86 = .ok (.aload_n 2, 1) := dk_44 (dk_at dksX1_decide_3 20 rfl rfl)
theorem dX1_decide_87 : decode cX1_decide 87 = .ok (.getstatic 260, 3) := dk_178 1 4 (dk_at dksX1_decide_3 21 rfl rfl)
theorem dX1_decide_90 : decode cX1_decide 90 = .ok (.iload 4, 2) := dk_21 4 (dk_at dksX1_decide_4 0 rfl rfl)
theorem dX1_decide_92 : decode cX1_decide 92 = .ok (.sipush 200, 3) := dk_17 0 200 (dk_at dksX1_decide_4 2 rfl rfl)
theorem dX1_decide_95 : decode cX1_decide 95 = .ok (.idiv, 1) := dk_108 (dk_at dksX1_decide_4 5 rfl rfl)
theorem dX1_decide_96 : decode cX1_decide 96 = .ok (.iload 4, 2) := dk_21 4 (dk_at dksX1_decide_4 6 rfl rfl)
theorem dX1_decide_98 : decode cX1_decide 98 = .ok (.sipush 200, 3) := dk_17 0 200 (dk_at dksX1_decide_4 8 rfl rfl)
theorem dX1_decide_101 : decode cX1_decide 101 = .ok (.irem, 1) := dk_112 (dk_at dksX1_decide_4 11 rfl rfl)
theorem dX1_decide_102 : decode cX1_decide 102 = .ok (.invokevirtual 286, 3) := dk_182 1 30 (dk_at dksX1_decide_4 12 rfl rfl)
theorem dX1_decide_105 : decode cX1_decide 105 = .ok (.goto 38, 3) := dk_167 0 38 (dk_at dksX1_decide_4 15 rfl rfl)
theorem dX1_decide_108 : decode cX1_decide 108 = .ok (.iload 5, 2) := dk_21 5 (dk_at dksX1_decide_4 18 rfl rfl)
theorem dX1_decide_110 : decode cX1_decide 110 = .ok (.iconst (-1), 1) := dk_2 (dk_at dksX1_decide_4 20 rfl rfl)
theorem dX1_decide_111 : decode cX1_decide 111 = .ok (.if_icmp .eq 16, 3) := dk_159 0 16 (dk_at dksX1_decide_4 21 rfl rfl)
theorem dX1_decide_114 : decode cX1_decide 114 = .ok (.aload_n 2, 1) := dk_44 (dk_at dksX1_decide_5 0 rfl rfl)
theorem dX1_decide_115 : decode cX1_decide 115 = .ok (.getstatic 263, 3) := dk_178 1 7 (dk_at dksX1_decide_5 1 rfl rfl)
theorem dX1_decide_118 : decode cX1_decide 118 = .ok (.iload 5, 2) := dk_21 5 (dk_at dksX1_decide_5 4 rfl rfl)
theorem dX1_decide_120 : decode cX1_decide 120 = .ok (.iconst 0, 1) := dk_3 (dk_at dksX1_decide_5 6 rfl rfl)
theorem dX1_decide_121 : decode cX1_decide 121 = .ok (.invokevirtual 286, 3) := dk_182 1 30 (dk_at dksX1_decide_5 7 rfl rfl)
theorem dX1_decide_124 : decode cX1_decide 124 = .ok (.goto 19, 3) := dk_167 0 19 (dk_at dksX1_decide_5 10 rfl rfl)
theorem dX1_decide_127 : decode cX1_decide 127 = .ok (.iload 6, 2) := dk_21 6 (dk_at dksX1_decide_5 13 rfl rfl)
theorem dX1_decide_129 : decode cX1_decide 129 = .ok (.iconst (-1), 1) := dk_2 (dk_at dksX1_decide_5 15 rfl rfl)
theorem dX1_decide_130 : decode cX1_decide 130 = .ok (.if_icmp .eq 13, 3) := dk_159 0 13 (dk_at dksX1_decide_5 16 rfl rfl)
theorem dX1_decide_133 : decode cX1_decide 133 = .ok (.aload_n 2, 1) := dk_44 (dk_at dksX1_decide_5 19 rfl rfl)
theorem dX1_decide_134 : decode cX1_decide 134 = .ok (.getstatic 266, 3) := dk_178 1 10 (dk_at dksX1_decide_5 20 rfl rfl)
theorem dX1_decide_137 : decode cX1_decide 137 = .ok (.iload 6, 2) := dk_21 6 (dk_at dksX1_decide_6 0 rfl rfl)
theorem dX1_decide_139 : decode cX1_decide 139 = .ok (.iconst 0, 1) := dk_3 (dk_at dksX1_decide_6 2 rfl rfl)
theorem dX1_decide_140 : decode cX1_decide 140 = .ok (.invokevirtual 286, 3) := dk_182 1 30 (dk_at dksX1_decide_6 3 rfl rfl)
theorem dX1_decide_143 : decode cX1_decide 143 = .ok (.aload_n 2, 1) := dk_44 (dk_at dksX1_decide_6 6 rfl rfl)
theorem dX1_decide_144 : decode cX1_decide 144 = .ok (.invokevirtual 276, 3) := dk_182 1 20 (dk_at dksX1_decide_6 7 rfl rfl)
theorem dX1_decide_147 : decode cX1_decide 147 = .ok (.ifCond .eq 19, 3) := dk_153 0 19 (dk_at dksX1_decide_6 10 rfl rfl)
theorem dX1_decide_150 : decode cX1_decide 150 = .ok (.aload_n 2, 1) := dk_44 (dk_at dksX1_decide_6 13 rfl rfl)
theorem dX1_decide_151 : decode cX1_decide 151 = .ok (.getfield 308, 3) := dk_180 1 52 (dk_at dksX1_decide_6 14 rfl rfl)
theorem dX1_decide_154 : decode cX1_decide 154 = .ok (.invokevirtual 104, 3) := dk_182 0 104 (dk_at dksX1_decide_6 17 rfl rfl)
theorem dX1_decide_157 : decode cX1_decide 157 = .ok (.checkcast 255, 3) := dk_192 0 255 (dk_at dksX1_decide_6 20 rfl rfl)
theorem dX1_decide_160 : decode cX1_decide 160 = .ok (.invokevirtual 312, 3) := dk_182 1 56 (dk_at dksX1_decide_7 0 rfl rfl)
theorem dX1_decide_163 : decode cX1_decide 163 = .ok (.goto 4, 3) := dk_167 0 4 (dk_at dksX1_decide_7 3 rfl rfl)
theorem dX1_decide_166 : decode cX1_decide 166 = .ok (.iconst (-1), 1) := dk_2 (dk_at dksX1_decide_7 6 rfl rfl)
theorem dX1_decide_167 : decode cX1_decide 167 = .ok (.ireturn, 1) := dk_172 (dk_at dksX1_decide_7 7 rfl rfl)
abbrev cX1_gramNow : ByteArray := prog_1_method_52_code
def yX1_gramNow : MethodName := ⟨RX1, "gramNow", "(LHaltingale$Table;)I"⟩
def dkwX1_gramNow_1 : List UInt8 := [167, 255, 234, 2, 172]
abbrev dktX1_gramNow_1 : List UInt8 := dkwX1_gramNow_1 ++ []
def dkwX1_gramNow_0 : List UInt8 := [4, 60, 27, 6, 163, 0, 23, 178, 1, 10, 42, 27, 3, 182, 1, 23, 153, 0, 5, 27, 172, 132, 1, 1]
abbrev dktX1_gramNow_0 : List UInt8 := dkwX1_gramNow_0 ++ dktX1_gramNow_1
theorem dksX1_gramNow_0 : cX1_gramNow.data.toList.drop 0 = dktX1_gramNow_0 := by decide +kernel
theorem dksX1_gramNow_1 : cX1_gramNow.data.toList.drop 24 = dktX1_gramNow_1 := dk_seg dksX1_gramNow_0 24 rfl rfl
theorem dX1_gramNow_0 : decode cX1_gramNow 0 = .ok (.iconst 1, 1) := dk_4 (dk_at dksX1_gramNow_0 0 rfl rfl)
theorem dX1_gramNow_1 : decode cX1_gramNow 1 = .ok (.istore_n 1, 1) := dk_60 (dk_at dksX1_gramNow_0 1 rfl rfl)
theorem dX1_gramNow_2 : decode cX1_gramNow 2 = .ok (.iload_n 1, 1) := dk_27 (dk_at dksX1_gramNow_0 2 rfl rfl)
theorem dX1_gramNow_3 : decode cX1_gramNow 3 = .ok (.iconst 3, 1) := dk_6 (dk_at dksX1_gramNow_0 3 rfl rfl)
theorem dX1_gramNow_4 : decode cX1_gramNow 4 = .ok (.if_icmp .gt 23, 3) := dk_163 0 23 (dk_at dksX1_gramNow_0 4 rfl rfl)
theorem dX1_gramNow_7 : decode cX1_gramNow 7 = .ok (.getstatic 266, 3) := dk_178 1 10 (dk_at dksX1_gramNow_0 7 rfl rfl)
theorem dX1_gramNow_10 : decode cX1_gramNow 10 = .ok (.aload_n 0, 1) := dk_42 (dk_at dksX1_gramNow_0 10 rfl rfl)
theorem dX1_gramNow_11 : decode cX1_gramNow 11 = .ok (.iload_n 1, 1) := dk_27 (dk_at dksX1_gramNow_0 11 rfl rfl)
theorem dX1_gramNow_12 : decode cX1_gramNow 12 = .ok (.iconst 0, 1) := dk_3 (dk_at dksX1_gramNow_0 12 rfl rfl)
theorem dX1_gramNow_13 : decode cX1_gramNow 13 = .ok (.invokevirtual 279, 3) := dk_182 1 23 (dk_at dksX1_gramNow_0 13 rfl rfl)
theorem dX1_gramNow_16 : decode cX1_gramNow 16 = .ok (.ifCond .eq 5, 3) := dk_153 0 5 (dk_at dksX1_gramNow_0 16 rfl rfl)
theorem dX1_gramNow_19 : decode cX1_gramNow 19 = .ok (.iload_n 1, 1) := dk_27 (dk_at dksX1_gramNow_0 19 rfl rfl)
theorem dX1_gramNow_20 : decode cX1_gramNow 20 = .ok (.ireturn, 1) := dk_172 (dk_at dksX1_gramNow_0 20 rfl rfl)
theorem dX1_gramNow_21 : decode cX1_gramNow 21 = .ok (.iinc 1 1, 3) := dk_132 1 1 (dk_at dksX1_gramNow_0 21 rfl rfl)
theorem dX1_gramNow_24 : decode cX1_gramNow 24 = .ok (.goto (-22), 3) := dk_167 255 234 (dk_at dksX1_gramNow_1 0 rfl rfl)
theorem dX1_gramNow_27 : decode cX1_gramNow 27 = .ok (.iconst (-1), 1) := dk_2 (dk_at dksX1_gramNow_1 3 rfl rfl)
theorem dX1_gramNow_28 : decode cX1_gramNow 28 = .ok (.ireturn, 1) := dk_172 (dk_at dksX1_gramNow_1 4 rfl rfl)
abbrev cX1_cell : ByteArray := prog_1_method_30_code
def yX1_cell : MethodName := ⟨RX1, "cell", "(IIII)I"⟩
def dkwX1_cell_1 : List UInt8 := [184, 1, 68, 172]
abbrev dktX1_cell_1 : List UInt8 := dkwX1_cell_1 ++ []
def dkwX1_cell_0 : List UInt8 := [42, 27, 28, 29, 182, 0, 197, 58, 5, 21, 4, 3, 5, 184, 0, 170, 25, 5, 28, 29, 21, 4]
abbrev dktX1_cell_0 : List UInt8 := dkwX1_cell_0 ++ dktX1_cell_1
theorem dksX1_cell_0 : cX1_cell.data.toList.drop 0 = dktX1_cell_0 := by decide +kernel
theorem dksX1_cell_1 : cX1_cell.data.toList.drop 22 = dktX1_cell_1 := dk_seg dksX1_cell_0 22 rfl rfl
theorem dX1_cell_0 : decode cX1_cell 0 = .ok (.aload_n 0, 1) := dk_42 (dk_at dksX1_cell_0 0 rfl rfl)
theorem dX1_cell_1 : decode cX1_cell 1 = .ok (.iload_n 1, 1) := dk_27 (dk_at dksX1_cell_0 1 rfl rfl)
theorem dX1_cell_2 : decode cX1_cell 2 = .ok (.iload_n 2, 1) := dk_28 (dk_at dksX1_cell_0 2 rfl rfl)
theorem dX1_cell_3 : decode cX1_cell 3 = .ok (.iload_n 3, 1) := dk_29 (dk_at dksX1_cell_0 3 rfl rfl)
theorem dX1_cell_4 : decode cX1_cell 4 = .ok (.invokevirtual 197, 3) := dk_182 0 197 (dk_at dksX1_cell_0 4 rfl rfl)
theorem dX1_cell_7 : decode cX1_cell 7 = .ok (.astore 5, 2) := dk_58 5 (dk_at dksX1_cell_0 7 rfl rfl)
theorem dX1_cell_9 : decode cX1_cell 9 = .ok (.iload 4, 2) := dk_21 4 (dk_at dksX1_cell_0 9 rfl rfl)
theorem dX1_cell_11 : decode cX1_cell 11 = .ok (.iconst 0, 1) := dk_3 (dk_at dksX1_cell_0 11 rfl rfl)
theorem dX1_cell_12 : decode cX1_cell 12 = .ok (.iconst 2, 1) := dk_5 (dk_at dksX1_cell_0 12 rfl rfl)
theorem dX1_cell_13 : decode cX1_cell 13 = .ok (.invokestatic 170, 3) := dk_184 0 170 (dk_at dksX1_cell_0 13 rfl rfl)
theorem dX1_cell_16 : decode cX1_cell 16 = .ok (.aload 5, 2) := dk_25 5 (dk_at dksX1_cell_0 16 rfl rfl)
theorem dX1_cell_18 : decode cX1_cell 18 = .ok (.iload_n 2, 1) := dk_28 (dk_at dksX1_cell_0 18 rfl rfl)
theorem dX1_cell_19 : decode cX1_cell 19 = .ok (.iload_n 3, 1) := dk_29 (dk_at dksX1_cell_0 19 rfl rfl)
theorem dX1_cell_20 : decode cX1_cell 20 = .ok (.iload 4, 2) := dk_21 4 (dk_at dksX1_cell_0 20 rfl rfl)
theorem dX1_cell_22 : decode cX1_cell 22 = .ok (.invokestatic 324, 3) := dk_184 1 68 (dk_at dksX1_cell_1 0 rfl rfl)
theorem dX1_cell_25 : decode cX1_cell 25 = .ok (.ireturn, 1) := dk_172 (dk_at dksX1_cell_1 3 rfl rfl)
abbrev cX1_ofMachine : ByteArray := prog_1_method_33_code
def yX1_ofMachine : MethodName := ⟨RX1, "ofMachine", "(II)I"⟩
def dkwX1_ofMachine_1 : List UInt8 := [184, 1, 88, 172]
abbrev dktX1_ofMachine_1 : List UInt8 := dkwX1_ofMachine_1 ++ []
def dkwX1_ofMachine_0 : List UInt8 := [42, 27, 182, 0, 162, 78, 28, 3, 16, 8, 184, 0, 170, 45, 45, 17, 1, 244, 184, 0, 222, 28]
abbrev dktX1_ofMachine_0 : List UInt8 := dkwX1_ofMachine_0 ++ dktX1_ofMachine_1
theorem dksX1_ofMachine_0 : cX1_ofMachine.data.toList.drop 0 = dktX1_ofMachine_0 := by decide +kernel
theorem dksX1_ofMachine_1 : cX1_ofMachine.data.toList.drop 22 = dktX1_ofMachine_1 := dk_seg dksX1_ofMachine_0 22 rfl rfl
theorem dX1_ofMachine_0 : decode cX1_ofMachine 0 = .ok (.aload_n 0, 1) := dk_42 (dk_at dksX1_ofMachine_0 0 rfl rfl)
theorem dX1_ofMachine_1 : decode cX1_ofMachine 1 = .ok (.iload_n 1, 1) := dk_27 (dk_at dksX1_ofMachine_0 1 rfl rfl)
theorem dX1_ofMachine_2 : decode cX1_ofMachine 2 = .ok (.invokevirtual 162, 3) := dk_182 0 162 (dk_at dksX1_ofMachine_0 2 rfl rfl)
theorem dX1_ofMachine_5 : decode cX1_ofMachine 5 = .ok (.astore_n 3, 1) := dk_78 (dk_at dksX1_ofMachine_0 5 rfl rfl)
theorem dX1_ofMachine_6 : decode cX1_ofMachine 6 = .ok (.iload_n 2, 1) := dk_28 (dk_at dksX1_ofMachine_0 6 rfl rfl)
theorem dX1_ofMachine_7 : decode cX1_ofMachine 7 = .ok (.iconst 0, 1) := dk_3 (dk_at dksX1_ofMachine_0 7 rfl rfl)
theorem dX1_ofMachine_8 : decode cX1_ofMachine 8 = .ok (.bipush 8, 2) := dk_16 8 (dk_at dksX1_ofMachine_0 8 rfl rfl)
theorem dX1_ofMachine_10 : decode cX1_ofMachine 10 = .ok (.invokestatic 170, 3) := dk_184 0 170 (dk_at dksX1_ofMachine_0 10 rfl rfl)
theorem dX1_ofMachine_13 : decode cX1_ofMachine 13 = .ok (.aload_n 3, 1) := dk_45 (dk_at dksX1_ofMachine_0 13 rfl rfl)
theorem dX1_ofMachine_14 : decode cX1_ofMachine 14 = .ok (.aload_n 3, 1) := dk_45 (dk_at dksX1_ofMachine_0 14 rfl rfl)
theorem dX1_ofMachine_15 : decode cX1_ofMachine 15 = .ok (.sipush 500, 3) := dk_17 1 244 (dk_at dksX1_ofMachine_0 15 rfl rfl)
theorem dX1_ofMachine_18 : decode cX1_ofMachine 18 = .ok (.invokestatic 222, 3) := dk_184 0 222 (dk_at dksX1_ofMachine_0 18 rfl rfl)
theorem dX1_ofMachine_21 : decode cX1_ofMachine 21 = .ok (.iload_n 2, 1) := dk_28 (dk_at dksX1_ofMachine_0 21 rfl rfl)
theorem dX1_ofMachine_22 : decode cX1_ofMachine 22 = .ok (.invokestatic 344, 3) := dk_184 1 88 (dk_at dksX1_ofMachine_1 0 rfl rfl)
theorem dX1_ofMachine_25 : decode cX1_ofMachine 25 = .ok (.ireturn, 1) := dk_172 (dk_at dksX1_ofMachine_1 3 rfl rfl)
abbrev cX1_at : ByteArray := prog_1_method_36_code
def yX1_at : MethodName := ⟨RX1, "at", "(III)I"⟩
def dkwX1_at_1 : List UInt8 := [28, 184, 0, 222, 29, 184, 1, 105, 172]
abbrev dktX1_at_1 : List UInt8 := dkwX1_at_1 ++ []
def dkwX1_at_0 : List UInt8 := [42, 27, 182, 0, 162, 58, 4, 28, 3, 17, 1, 244, 184, 0, 170, 29, 3, 16, 7, 184, 0, 170, 25, 4]
abbrev dktX1_at_0 : List UInt8 := dkwX1_at_0 ++ dktX1_at_1
theorem dksX1_at_0 : cX1_at.data.toList.drop 0 = dktX1_at_0 := by decide +kernel
theorem dksX1_at_1 : cX1_at.data.toList.drop 24 = dktX1_at_1 := dk_seg dksX1_at_0 24 rfl rfl
theorem dX1_at_0 : decode cX1_at 0 = .ok (.aload_n 0, 1) := dk_42 (dk_at dksX1_at_0 0 rfl rfl)
theorem dX1_at_1 : decode cX1_at 1 = .ok (.iload_n 1, 1) := dk_27 (dk_at dksX1_at_0 1 rfl rfl)
theorem dX1_at_2 : decode cX1_at 2 = .ok (.invokevirtual 162, 3) := dk_182 0 162 (dk_at dksX1_at_0 2 rfl rfl)
theorem dX1_at_5 : decode cX1_at 5 = .ok (.astore 4, 2) := dk_58 4 (dk_at dksX1_at_0 5 rfl rfl)
theorem dX1_at_7 : decode cX1_at 7 = .ok (.iload_n 2, 1) := dk_28 (dk_at dksX1_at_0 7 rfl rfl)
theorem dX1_at_8 : decode cX1_at 8 = .ok (.iconst 0, 1) := dk_3 (dk_at dksX1_at_0 8 rfl rfl)
theorem dX1_at_9 : decode cX1_at 9 = .ok (.sipush 500, 3) := dk_17 1 244 (dk_at dksX1_at_0 9 rfl rfl)
theorem dX1_at_12 : decode cX1_at 12 = .ok (.invokestatic 170, 3) := dk_184 0 170 (dk_at dksX1_at_0 12 rfl rfl)
theorem dX1_at_15 : decode cX1_at 15 = .ok (.iload_n 3, 1) := dk_29 (dk_at dksX1_at_0 15 rfl rfl)
theorem dX1_at_16 : decode cX1_at 16 = .ok (.iconst 0, 1) := dk_3 (dk_at dksX1_at_0 16 rfl rfl)
theorem dX1_at_17 : decode cX1_at 17 = .ok (.bipush 7, 2) := dk_16 7 (dk_at dksX1_at_0 17 rfl rfl)
theorem dX1_at_19 : decode cX1_at 19 = .ok (.invokestatic 170, 3) := dk_184 0 170 (dk_at dksX1_at_0 19 rfl rfl)
theorem dX1_at_22 : decode cX1_at 22 = .ok (.aload 4, 2) := dk_25 4 (dk_at dksX1_at_0 22 rfl rfl)
theorem dX1_at_24 : decode cX1_at 24 = .ok (.iload_n 2, 1) := dk_28 (dk_at dksX1_at_1 0 rfl rfl)
theorem dX1_at_25 : decode cX1_at 25 = .ok (.invokestatic 222, 3) := dk_184 0 222 (dk_at dksX1_at_1 1 rfl rfl)
theorem dX1_at_28 : decode cX1_at 28 = .ok (.iload_n 3, 1) := dk_29 (dk_at dksX1_at_1 4 rfl rfl)
theorem dX1_at_29 : decode cX1_at 29 = .ok (.invokestatic 361, 3) := dk_184 1 105 (dk_at dksX1_at_1 5 rfl rfl)
theorem dX1_at_32 : decode cX1_at 32 = .ok (.ireturn, 1) := dk_172 (dk_at dksX1_at_1 8 rfl rfl)
abbrev cX1_symbol : ByteArray := prog_1_method_37_code
def yX1_symbol : MethodName := ⟨RX1, "symbol", "(III)I"⟩
def dkwX1_symbol_1 : List UInt8 := [184, 0, 170, 25, 4, 28, 184, 0, 222, 29, 182, 0, 237, 172]
abbrev dktX1_symbol_1 : List UInt8 := dkwX1_symbol_1 ++ []
def dkwX1_symbol_0 : List UInt8 := [42, 27, 182, 0, 162, 58, 4, 28, 3, 17, 1, 244, 184, 0, 170, 29, 17, 254, 11, 17, 1, 245]
abbrev dktX1_symbol_0 : List UInt8 := dkwX1_symbol_0 ++ dktX1_symbol_1
theorem dksX1_symbol_0 : cX1_symbol.data.toList.drop 0 = dktX1_symbol_0 := by decide +kernel
theorem dksX1_symbol_1 : cX1_symbol.data.toList.drop 22 = dktX1_symbol_1 := dk_seg dksX1_symbol_0 22 rfl rfl
theorem dX1_symbol_0 : decode cX1_symbol 0 = .ok (.aload_n 0, 1) := dk_42 (dk_at dksX1_symbol_0 0 rfl rfl)
theorem dX1_symbol_1 : decode cX1_symbol 1 = .ok (.iload_n 1, 1) := dk_27 (dk_at dksX1_symbol_0 1 rfl rfl)
theorem dX1_symbol_2 : decode cX1_symbol 2 = .ok (.invokevirtual 162, 3) := dk_182 0 162 (dk_at dksX1_symbol_0 2 rfl rfl)
theorem dX1_symbol_5 : decode cX1_symbol 5 = .ok (.astore 4, 2) := dk_58 4 (dk_at dksX1_symbol_0 5 rfl rfl)
theorem dX1_symbol_7 : decode cX1_symbol 7 = .ok (.iload_n 2, 1) := dk_28 (dk_at dksX1_symbol_0 7 rfl rfl)
theorem dX1_symbol_8 : decode cX1_symbol 8 = .ok (.iconst 0, 1) := dk_3 (dk_at dksX1_symbol_0 8 rfl rfl)
theorem dX1_symbol_9 : decode cX1_symbol 9 = .ok (.sipush 500, 3) := dk_17 1 244 (dk_at dksX1_symbol_0 9 rfl rfl)
theorem dX1_symbol_12 : decode cX1_symbol 12 = .ok (.invokestatic 170, 3) := dk_184 0 170 (dk_at dksX1_symbol_0 12 rfl rfl)
theorem dX1_symbol_15 : decode cX1_symbol 15 = .ok (.iload_n 3, 1) := dk_29 (dk_at dksX1_symbol_0 15 rfl rfl)
theorem dX1_symbol_16 : decode cX1_symbol 16 = .ok (.sipush (-501), 3) := dk_17 254 11 (dk_at dksX1_symbol_0 16 rfl rfl)
theorem dX1_symbol_19 : decode cX1_symbol 19 = .ok (.sipush 501, 3) := dk_17 1 245 (dk_at dksX1_symbol_0 19 rfl rfl)
theorem dX1_symbol_22 : decode cX1_symbol 22 = .ok (.invokestatic 170, 3) := dk_184 0 170 (dk_at dksX1_symbol_1 0 rfl rfl)
theorem dX1_symbol_25 : decode cX1_symbol 25 = .ok (.aload 4, 2) := dk_25 4 (dk_at dksX1_symbol_1 3 rfl rfl)
theorem dX1_symbol_27 : decode cX1_symbol 27 = .ok (.iload_n 2, 1) := dk_28 (dk_at dksX1_symbol_1 5 rfl rfl)
theorem dX1_symbol_28 : decode cX1_symbol 28 = .ok (.invokestatic 222, 3) := dk_184 0 222 (dk_at dksX1_symbol_1 6 rfl rfl)
theorem dX1_symbol_31 : decode cX1_symbol 31 = .ok (.iload_n 3, 1) := dk_29 (dk_at dksX1_symbol_1 9 rfl rfl)
theorem dX1_symbol_32 : decode cX1_symbol 32 = .ok (.invokevirtual 237, 3) := dk_182 0 237 (dk_at dksX1_symbol_1 10 rfl rfl)
theorem dX1_symbol_35 : decode cX1_symbol 35 = .ok (.ireturn, 1) := dk_172 (dk_at dksX1_symbol_1 13 rfl rfl)
abbrev cX1_lean : ByteArray := prog_1_method_38_code
def yX1_lean : MethodName := ⟨RX1, "lean", "(II)D"⟩
def dkwX1_lean_3 : List UInt8 := [24, 5, 184, 1, 119, 107, 14, 99, 175]
abbrev dktX1_lean_3 : List UInt8 := dkwX1_lean_3 ++ []
def dkwX1_lean_2 : List UInt8 := [180, 0, 39, 135, 111, 184, 1, 113, 20, 1, 108, 111, 57, 5, 25, 4, 180, 0, 18, 135, 184, 1, 116, 15]
abbrev dktX1_lean_2 : List UInt8 := dkwX1_lean_2 ++ dktX1_lean_3
def dkwX1_lean_1 : List UInt8 := [180, 0, 39, 154, 0, 5, 14, 175, 20, 1, 108, 25, 4, 180, 0, 18, 135, 184, 1, 110, 107, 25, 4]
abbrev dktX1_lean_1 : List UInt8 := dkwX1_lean_1 ++ dktX1_lean_2
def dkwX1_lean_0 : List UInt8 := [42, 27, 182, 0, 162, 78, 28, 3, 17, 1, 244, 184, 0, 170, 45, 28, 184, 0, 222, 58, 4, 25, 4]
abbrev dktX1_lean_0 : List UInt8 := dkwX1_lean_0 ++ dktX1_lean_1
theorem dksX1_lean_0 : cX1_lean.data.toList.drop 0 = dktX1_lean_0 := by decide +kernel
theorem dksX1_lean_1 : cX1_lean.data.toList.drop 23 = dktX1_lean_1 := dk_seg dksX1_lean_0 23 rfl rfl
theorem dksX1_lean_2 : cX1_lean.data.toList.drop 46 = dktX1_lean_2 := dk_seg dksX1_lean_1 23 rfl rfl
theorem dksX1_lean_3 : cX1_lean.data.toList.drop 70 = dktX1_lean_3 := dk_seg dksX1_lean_2 24 rfl rfl
theorem dX1_lean_0 : decode cX1_lean 0 = .ok (.aload_n 0, 1) := dk_42 (dk_at dksX1_lean_0 0 rfl rfl)
theorem dX1_lean_1 : decode cX1_lean 1 = .ok (.iload_n 1, 1) := dk_27 (dk_at dksX1_lean_0 1 rfl rfl)
theorem dX1_lean_2 : decode cX1_lean 2 = .ok (.invokevirtual 162, 3) := dk_182 0 162 (dk_at dksX1_lean_0 2 rfl rfl)
theorem dX1_lean_5 : decode cX1_lean 5 = .ok (.astore_n 3, 1) := dk_78 (dk_at dksX1_lean_0 5 rfl rfl)
theorem dX1_lean_6 : decode cX1_lean 6 = .ok (.iload_n 2, 1) := dk_28 (dk_at dksX1_lean_0 6 rfl rfl)
theorem dX1_lean_7 : decode cX1_lean 7 = .ok (.iconst 0, 1) := dk_3 (dk_at dksX1_lean_0 7 rfl rfl)
theorem dX1_lean_8 : decode cX1_lean 8 = .ok (.sipush 500, 3) := dk_17 1 244 (dk_at dksX1_lean_0 8 rfl rfl)
theorem dX1_lean_11 : decode cX1_lean 11 = .ok (.invokestatic 170, 3) := dk_184 0 170 (dk_at dksX1_lean_0 11 rfl rfl)
theorem dX1_lean_14 : decode cX1_lean 14 = .ok (.aload_n 3, 1) := dk_45 (dk_at dksX1_lean_0 14 rfl rfl)
theorem dX1_lean_15 : decode cX1_lean 15 = .ok (.iload_n 2, 1) := dk_28 (dk_at dksX1_lean_0 15 rfl rfl)
theorem dX1_lean_16 : decode cX1_lean 16 = .ok (.invokestatic 222, 3) := dk_184 0 222 (dk_at dksX1_lean_0 16 rfl rfl)
theorem dX1_lean_19 : decode cX1_lean 19 = .ok (.astore 4, 2) := dk_58 4 (dk_at dksX1_lean_0 19 rfl rfl)
theorem dX1_lean_21 : decode cX1_lean 21 = .ok (.aload 4, 2) := dk_25 4 (dk_at dksX1_lean_0 21 rfl rfl)
theorem dX1_lean_23 : decode cX1_lean 23 = .ok (.getfield 39, 3) := dk_180 0 39 (dk_at dksX1_lean_1 0 rfl rfl)
theorem dX1_lean_26 : decode cX1_lean 26 = .ok (.ifCond .ne 5, 3) := dk_154 0 5 (dk_at dksX1_lean_1 3 rfl rfl)
theorem dX1_lean_29 : decode cX1_lean 29 = .ok (.dconst 0, 1) := dk_14 (dk_at dksX1_lean_1 6 rfl rfl)
theorem dX1_lean_30 : decode cX1_lean 30 = .ok (.dreturn, 1) := dk_175 (dk_at dksX1_lean_1 7 rfl rfl)
theorem dX1_lean_31 : decode cX1_lean 31 = .ok (.ldc2_w 364, 3) := dk_20 1 108 (dk_at dksX1_lean_1 8 rfl rfl)
theorem dX1_lean_34 : decode cX1_lean 34 = .ok (.aload 4, 2) := dk_25 4 (dk_at dksX1_lean_1 11 rfl rfl)
theorem dX1_lean_36 : decode cX1_lean 36 = .ok (.getfield 18, 3) := dk_180 0 18 (dk_at dksX1_lean_1 13 rfl rfl)
theorem dX1_lean_39 : decode cX1_lean 39 = .ok (.i2d, 1) := dk_135 (dk_at dksX1_lean_1 16 rfl rfl)
theorem dX1_lean_40 : decode cX1_lean 40 = .ok (.invokestatic 366, 3) := dk_184 1 110 (dk_at dksX1_lean_1 17 rfl rfl)
theorem dX1_lean_43 : decode cX1_lean 43 = .ok (.dmul, 1) := dk_107 (dk_at dksX1_lean_1 20 rfl rfl)
theorem dX1_lean_44 : decode cX1_lean 44 = .ok (.aload 4, 2) := dk_25 4 (dk_at dksX1_lean_1 21 rfl rfl)
theorem dX1_lean_46 : decode cX1_lean 46 = .ok (.getfield 39, 3) := dk_180 0 39 (dk_at dksX1_lean_2 0 rfl rfl)
theorem dX1_lean_49 : decode cX1_lean 49 = .ok (.i2d, 1) := dk_135 (dk_at dksX1_lean_2 3 rfl rfl)
theorem dX1_lean_50 : decode cX1_lean 50 = .ok (.ddiv, 1) := dk_111 (dk_at dksX1_lean_2 4 rfl rfl)
theorem dX1_lean_51 : decode cX1_lean 51 = .ok (.invokestatic 369, 3) := dk_184 1 113 (dk_at dksX1_lean_2 5 rfl rfl)
theorem dX1_lean_54 : decode cX1_lean 54 = .ok (.ldc2_w 364, 3) := dk_20 1 108 (dk_at dksX1_lean_2 8 rfl rfl)
theorem dX1_lean_57 : decode cX1_lean 57 = .ok (.ddiv, 1) := dk_111 (dk_at dksX1_lean_2 11 rfl rfl)
theorem dX1_lean_58 : decode cX1_lean 58 = .ok (.dstore 5, 2) := dk_57 5 (dk_at dksX1_lean_2 12 rfl rfl)
theorem dX1_lean_60 : decode cX1_lean 60 = .ok (.aload 4, 2) := dk_25 4 (dk_at dksX1_lean_2 14 rfl rfl)
theorem dX1_lean_62 : decode cX1_lean 62 = .ok (.getfield 18, 3) := dk_180 0 18 (dk_at dksX1_lean_2 16 rfl rfl)
theorem dX1_lean_65 : decode cX1_lean 65 = .ok (.i2d, 1) := dk_135 (dk_at dksX1_lean_2 19 rfl rfl)
theorem dX1_lean_66 : decode cX1_lean 66 = .ok (.invokestatic 372, 3) := dk_184 1 116 (dk_at dksX1_lean_2 20 rfl rfl)
theorem dX1_lean_69 : decode cX1_lean 69 = .ok (.dconst 1, 1) := dk_15 (dk_at dksX1_lean_2 23 rfl rfl)
theorem dX1_lean_70 : decode cX1_lean 70 = .ok (.dload 5, 2) := dk_24 5 (dk_at dksX1_lean_3 0 rfl rfl)
theorem dX1_lean_72 : decode cX1_lean 72 = .ok (.invokestatic 375, 3) := dk_184 1 119 (dk_at dksX1_lean_3 2 rfl rfl)
theorem dX1_lean_75 : decode cX1_lean 75 = .ok (.dmul, 1) := dk_107 (dk_at dksX1_lean_3 5 rfl rfl)
theorem dX1_lean_76 : decode cX1_lean 76 = .ok (.dconst 0, 1) := dk_14 (dk_at dksX1_lean_3 6 rfl rfl)
theorem dX1_lean_77 : decode cX1_lean 77 = .ok (.dadd, 1) := dk_99 (dk_at dksX1_lean_3 7 rfl rfl)
theorem dX1_lean_78 : decode cX1_lean 78 = .ok (.dreturn, 1) := dk_175 (dk_at dksX1_lean_3 8 rfl rfl)
abbrev cX1_meets : ByteArray := prog_1_method_39_code
def yX1_meets : MethodName := ⟨RX1, "meets", "(IIII)I"⟩
def dkwX1_meets_4 : List UInt8 := [167, 255, 198, 2, 172]
abbrev dktX1_meets_4 : List UInt8 := dkwX1_meets_4 ++ []
def dkwX1_meets_3 : List UInt8 := [182, 0, 22, 154, 0, 5, 2, 172, 21, 7, 21, 4, 162, 0, 8, 25, 6, 182, 0, 26, 132, 7, 1]
abbrev dktX1_meets_3 : List UInt8 := dkwX1_meets_3 ++ dktX1_meets_4
def dkwX1_meets_2 : List UInt8 := [160, 0, 20, 25, 6, 25, 6, 180, 0, 18, 182, 0, 237, 29, 160, 0, 6, 21, 7, 172, 25, 6]
abbrev dktX1_meets_2 : List UInt8 := dkwX1_meets_2 ++ dktX1_meets_3
def dkwX1_meets_1 : List UInt8 := [21, 4, 183, 0, 5, 58, 6, 3, 54, 7, 21, 7, 21, 4, 163, 0, 57, 25, 6, 180, 0, 234, 28]
abbrev dktX1_meets_1 : List UInt8 := dkwX1_meets_1 ++ dktX1_meets_2
def dkwX1_meets_0 : List UInt8 := [42, 27, 28, 29, 182, 0, 197, 58, 5, 21, 4, 3, 17, 1, 244, 184, 0, 170, 187, 0, 3, 89, 25, 5]
abbrev dktX1_meets_0 : List UInt8 := dkwX1_meets_0 ++ dktX1_meets_1
theorem dksX1_meets_0 : cX1_meets.data.toList.drop 0 = dktX1_meets_0 := by decide +kernel
theorem dksX1_meets_1 : cX1_meets.data.toList.drop 24 = dktX1_meets_1 := dk_seg dksX1_meets_0 24 rfl rfl
theorem dksX1_meets_2 : cX1_meets.data.toList.drop 47 = dktX1_meets_2 := dk_seg dksX1_meets_1 23 rfl rfl
theorem dksX1_meets_3 : cX1_meets.data.toList.drop 69 = dktX1_meets_3 := dk_seg dksX1_meets_2 22 rfl rfl
theorem dksX1_meets_4 : cX1_meets.data.toList.drop 92 = dktX1_meets_4 := dk_seg dksX1_meets_3 23 rfl rfl
theorem dX1_meets_0 : decode cX1_meets 0 = .ok (.aload_n 0, 1) := dk_42 (dk_at dksX1_meets_0 0 rfl rfl)
theorem dX1_meets_1 : decode cX1_meets 1 = .ok (.iload_n 1, 1) := dk_27 (dk_at dksX1_meets_0 1 rfl rfl)
theorem dX1_meets_2 : decode cX1_meets 2 = .ok (.iload_n 2, 1) := dk_28 (dk_at dksX1_meets_0 2 rfl rfl)
theorem dX1_meets_3 : decode cX1_meets 3 = .ok (.iload_n 3, 1) := dk_29 (dk_at dksX1_meets_0 3 rfl rfl)
theorem dX1_meets_4 : decode cX1_meets 4 = .ok (.invokevirtual 197, 3) := dk_182 0 197 (dk_at dksX1_meets_0 4 rfl rfl)
theorem dX1_meets_7 : decode cX1_meets 7 = .ok (.astore 5, 2) := dk_58 5 (dk_at dksX1_meets_0 7 rfl rfl)
theorem dX1_meets_9 : decode cX1_meets 9 = .ok (.iload 4, 2) := dk_21 4 (dk_at dksX1_meets_0 9 rfl rfl)
theorem dX1_meets_11 : decode cX1_meets 11 = .ok (.iconst 0, 1) := dk_3 (dk_at dksX1_meets_0 11 rfl rfl)
theorem dX1_meets_12 : decode cX1_meets 12 = .ok (.sipush 500, 3) := dk_17 1 244 (dk_at dksX1_meets_0 12 rfl rfl)
theorem dX1_meets_15 : decode cX1_meets 15 = .ok (.invokestatic 170, 3) := dk_184 0 170 (dk_at dksX1_meets_0 15 rfl rfl)
theorem dX1_meets_18 : decode cX1_meets 18 = .ok (.new 3, 3) := dk_187 0 3 (dk_at dksX1_meets_0 18 rfl rfl)
theorem dX1_meets_21 : decode cX1_meets 21 = .ok (.dup, 1) := dk_89 (dk_at dksX1_meets_0 21 rfl rfl)
theorem dX1_meets_22 : decode cX1_meets 22 = .ok (.aload 5, 2) := dk_25 5 (dk_at dksX1_meets_0 22 rfl rfl)
theorem dX1_meets_24 : decode cX1_meets 24 = .ok (.iload 4, 2) := dk_21 4 (dk_at dksX1_meets_1 0 rfl rfl)
theorem dX1_meets_26 : decode cX1_meets 26 = .ok (.invokespecial 5, 3) := dk_183 0 5 (dk_at dksX1_meets_1 2 rfl rfl)
theorem dX1_meets_29 : decode cX1_meets 29 = .ok (.astore 6, 2) := dk_58 6 (dk_at dksX1_meets_1 5 rfl rfl)
theorem dX1_meets_31 : decode cX1_meets 31 = .ok (.iconst 0, 1) := dk_3 (dk_at dksX1_meets_1 7 rfl rfl)
theorem dX1_meets_32 : decode cX1_meets 32 = .ok (.istore 7, 2) := dk_54 7 (dk_at dksX1_meets_1 8 rfl rfl)
theorem dX1_meets_34 : decode cX1_meets 34 = .ok (.iload 7, 2) := dk_21 7 (dk_at dksX1_meets_1 10 rfl rfl)
theorem dX1_meets_36 : decode cX1_meets 36 = .ok (.iload 4, 2) := dk_21 4 (dk_at dksX1_meets_1 12 rfl rfl)
theorem dX1_meets_38 : decode cX1_meets 38 = .ok (.if_icmp .gt 57, 3) := dk_163 0 57 (dk_at dksX1_meets_1 14 rfl rfl)
theorem dX1_meets_41 : decode cX1_meets 41 = .ok (.aload 6, 2) := dk_25 6 (dk_at dksX1_meets_1 17 rfl rfl)
theorem dX1_meets_43 : decode cX1_meets 43 = .ok (.getfield 234, 3) := dk_180 0 234 (dk_at dksX1_meets_1 19 rfl rfl)
theorem dX1_meets_46 : decode cX1_meets 46 = .ok (.iload_n 2, 1) := dk_28 (dk_at dksX1_meets_1 22 rfl rfl)
theorem dX1_meets_47 : decode cX1_meets 47 = .ok (.if_icmp .ne 20, 3) := dk_160 0 20 (dk_at dksX1_meets_2 0 rfl rfl)
theorem dX1_meets_50 : decode cX1_meets 50 = .ok (.aload 6, 2) := dk_25 6 (dk_at dksX1_meets_2 3 rfl rfl)
theorem dX1_meets_52 : decode cX1_meets 52 = .ok (.aload 6, 2) := dk_25 6 (dk_at dksX1_meets_2 5 rfl rfl)
theorem dX1_meets_54 : decode cX1_meets 54 = .ok (.getfield 18, 3) := dk_180 0 18 (dk_at dksX1_meets_2 7 rfl rfl)
theorem dX1_meets_57 : decode cX1_meets 57 = .ok (.invokevirtual 237, 3) := dk_182 0 237 (dk_at dksX1_meets_2 10 rfl rfl)
theorem dX1_meets_60 : decode cX1_meets 60 = .ok (.iload_n 3, 1) := dk_29 (dk_at dksX1_meets_2 13 rfl rfl)
theorem dX1_meets_61 : decode cX1_meets 61 = .ok (.if_icmp .ne 6, 3) := dk_160 0 6 (dk_at dksX1_meets_2 14 rfl rfl)
theorem dX1_meets_64 : decode cX1_meets 64 = .ok (.iload 7, 2) := dk_21 7 (dk_at dksX1_meets_2 17 rfl rfl)
theorem dX1_meets_66 : decode cX1_meets 66 = .ok (.ireturn, 1) := dk_172 (dk_at dksX1_meets_2 19 rfl rfl)
theorem dX1_meets_67 : decode cX1_meets 67 = .ok (.aload 6, 2) := dk_25 6 (dk_at dksX1_meets_2 20 rfl rfl)
theorem dX1_meets_69 : decode cX1_meets 69 = .ok (.invokevirtual 22, 3) := dk_182 0 22 (dk_at dksX1_meets_3 0 rfl rfl)
theorem dX1_meets_72 : decode cX1_meets 72 = .ok (.ifCond .ne 5, 3) := dk_154 0 5 (dk_at dksX1_meets_3 3 rfl rfl)
theorem dX1_meets_75 : decode cX1_meets 75 = .ok (.iconst (-1), 1) := dk_2 (dk_at dksX1_meets_3 6 rfl rfl)
theorem dX1_meets_76 : decode cX1_meets 76 = .ok (.ireturn, 1) := dk_172 (dk_at dksX1_meets_3 7 rfl rfl)
theorem dX1_meets_77 : decode cX1_meets 77 = .ok (.iload 7, 2) := dk_21 7 (dk_at dksX1_meets_3 8 rfl rfl)
theorem dX1_meets_79 : decode cX1_meets 79 = .ok (.iload 4, 2) := dk_21 4 (dk_at dksX1_meets_3 10 rfl rfl)
theorem dX1_meets_81 : decode cX1_meets 81 = .ok (.if_icmp .ge 8, 3) := dk_162 0 8 (dk_at dksX1_meets_3 12 rfl rfl)
theorem dX1_meets_84 : decode cX1_meets 84 = .ok (.aload 6, 2) := dk_25 6 (dk_at dksX1_meets_3 15 rfl rfl)
theorem dX1_meets_86 : decode cX1_meets 86 = .ok (.invokevirtual 26, 3) := dk_182 0 26 (dk_at dksX1_meets_3 17 rfl rfl)
theorem dX1_meets_89 : decode cX1_meets 89 = .ok (.iinc 7 1, 3) := dk_132 7 1 (dk_at dksX1_meets_3 20 rfl rfl)
theorem dX1_meets_92 : decode cX1_meets 92 = .ok (.goto (-58), 3) := dk_167 255 198 (dk_at dksX1_meets_4 0 rfl rfl)
theorem dX1_meets_95 : decode cX1_meets 95 = .ok (.iconst (-1), 1) := dk_2 (dk_at dksX1_meets_4 3 rfl rfl)
theorem dX1_meets_96 : decode cX1_meets 96 = .ok (.ireturn, 1) := dk_172 (dk_at dksX1_meets_4 4 rfl rfl)
abbrev cX1_likeness : ByteArray := prog_1_method_40_code
def yX1_likeness : MethodName := ⟨RX1, "likeness", "(II)I"⟩
def dkwX1_likeness_2 : List UInt8 := [3, 172]
abbrev dktX1_likeness_2 : List UInt8 := dkwX1_likeness_2 ++ []
def dkwX1_likeness_1 : List UInt8 := [182, 1, 122, 153, 0, 7, 4, 167, 0, 18, 45, 25, 4, 4, 182, 1, 122, 153, 0, 7, 5, 167, 0, 4]
abbrev dktX1_likeness_1 : List UInt8 := dkwX1_likeness_1 ++ dktX1_likeness_2
def dkwX1_likeness_0 : List UInt8 := [42, 27, 182, 0, 162, 180, 0, 166, 78, 42, 28, 182, 0, 162, 180, 0, 166, 58, 4, 45, 25, 4, 3]
abbrev dktX1_likeness_0 : List UInt8 := dkwX1_likeness_0 ++ dktX1_likeness_1
theorem dksX1_likeness_0 : cX1_likeness.data.toList.drop 0 = dktX1_likeness_0 := by decide +kernel
theorem dksX1_likeness_1 : cX1_likeness.data.toList.drop 23 = dktX1_likeness_1 := dk_seg dksX1_likeness_0 23 rfl rfl
theorem dksX1_likeness_2 : cX1_likeness.data.toList.drop 47 = dktX1_likeness_2 := dk_seg dksX1_likeness_1 24 rfl rfl
theorem dX1_likeness_0 : decode cX1_likeness 0 = .ok (.aload_n 0, 1) := dk_42 (dk_at dksX1_likeness_0 0 rfl rfl)
theorem dX1_likeness_1 : decode cX1_likeness 1 = .ok (.iload_n 1, 1) := dk_27 (dk_at dksX1_likeness_0 1 rfl rfl)
theorem dX1_likeness_2 : decode cX1_likeness 2 = .ok (.invokevirtual 162, 3) := dk_182 0 162 (dk_at dksX1_likeness_0 2 rfl rfl)
theorem dX1_likeness_5 : decode cX1_likeness 5 = .ok (.getfield 166, 3) := dk_180 0 166 (dk_at dksX1_likeness_0 5 rfl rfl)
theorem dX1_likeness_8 : decode cX1_likeness 8 = .ok (.astore_n 3, 1) := dk_78 (dk_at dksX1_likeness_0 8 rfl rfl)
theorem dX1_likeness_9 : decode cX1_likeness 9 = .ok (.aload_n 0, 1) := dk_42 (dk_at dksX1_likeness_0 9 rfl rfl)
theorem dX1_likeness_10 : decode cX1_likeness 10 = .ok (.iload_n 2, 1) := dk_28 (dk_at dksX1_likeness_0 10 rfl rfl)
theorem dX1_likeness_11 : decode cX1_likeness 11 = .ok (.invokevirtual 162, 3) := dk_182 0 162 (dk_at dksX1_likeness_0 11 rfl rfl)
theorem dX1_likeness_14 : decode cX1_likeness 14 = .ok (.getfield 166, 3) := dk_180 0 166 (dk_at dksX1_likeness_0 14 rfl rfl)
theorem dX1_likeness_17 : decode cX1_likeness 17 = .ok (.astore 4, 2) := dk_58 4 (dk_at dksX1_likeness_0 17 rfl rfl)
theorem dX1_likeness_19 : decode cX1_likeness 19 = .ok (.aload_n 3, 1) := dk_45 (dk_at dksX1_likeness_0 19 rfl rfl)
theorem dX1_likeness_20 : decode cX1_likeness 20 = .ok (.aload 4, 2) := dk_25 4 (dk_at dksX1_likeness_0 20 rfl rfl)
theorem dX1_likeness_22 : decode cX1_likeness 22 = .ok (.iconst 0, 1) := dk_3 (dk_at dksX1_likeness_0 22 rfl rfl)
theorem dX1_likeness_23 : decode cX1_likeness 23 = .ok (.invokevirtual 378, 3) := dk_182 1 122 (dk_at dksX1_likeness_1 0 rfl rfl)
theorem dX1_likeness_26 : decode cX1_likeness 26 = .ok (.ifCond .eq 7, 3) := dk_153 0 7 (dk_at dksX1_likeness_1 3 rfl rfl)
theorem dX1_likeness_29 : decode cX1_likeness 29 = .ok (.iconst 1, 1) := dk_4 (dk_at dksX1_likeness_1 6 rfl rfl)
theorem dX1_likeness_30 : decode cX1_likeness 30 = .ok (.goto 18, 3) := dk_167 0 18 (dk_at dksX1_likeness_1 7 rfl rfl)
theorem dX1_likeness_33 : decode cX1_likeness 33 = .ok (.aload_n 3, 1) := dk_45 (dk_at dksX1_likeness_1 10 rfl rfl)
theorem dX1_likeness_34 : decode cX1_likeness 34 = .ok (.aload 4, 2) := dk_25 4 (dk_at dksX1_likeness_1 11 rfl rfl)
theorem dX1_likeness_36 : decode cX1_likeness 36 = .ok (.iconst 1, 1) := dk_4 (dk_at dksX1_likeness_1 13 rfl rfl)
theorem dX1_likeness_37 : decode cX1_likeness 37 = .ok (.invokevirtual 378, 3) := dk_182 1 122 (dk_at dksX1_likeness_1 14 rfl rfl)
theorem dX1_likeness_40 : decode cX1_likeness 40 = .ok (.ifCond .eq 7, 3) := dk_153 0 7 (dk_at dksX1_likeness_1 17 rfl rfl)
theorem dX1_likeness_43 : decode cX1_likeness 43 = .ok (.iconst 2, 1) := dk_5 (dk_at dksX1_likeness_1 20 rfl rfl)
theorem dX1_likeness_44 : decode cX1_likeness 44 = .ok (.goto 4, 3) := dk_167 0 4 (dk_at dksX1_likeness_1 21 rfl rfl)
theorem dX1_likeness_47 : decode cX1_likeness 47 = .ok (.iconst 0, 1) := dk_3 (dk_at dksX1_likeness_2 0 rfl rfl)
theorem dX1_likeness_48 : decode cX1_likeness 48 = .ok (.ireturn, 1) := dk_172 (dk_at dksX1_likeness_2 1 rfl rfl)
abbrev cX1_champion : ByteArray := prog_1_method_42_code
def yX1_champion : MethodName := ⟨RX1, "champion", "(I)I"⟩
def dkwX1_champion_0 : List UInt8 := [27, 3, 4, 184, 0, 170, 42, 27, 182, 1, 126, 172]
abbrev dktX1_champion_0 : List UInt8 := dkwX1_champion_0 ++ []
theorem dksX1_champion_0 : cX1_champion.data.toList.drop 0 = dktX1_champion_0 := by decide +kernel
theorem dX1_champion_0 : decode cX1_champion 0 = .ok (.iload_n 1, 1) := dk_27 (dk_at dksX1_champion_0 0 rfl rfl)
theorem dX1_champion_1 : decode cX1_champion 1 = .ok (.iconst 0, 1) := dk_3 (dk_at dksX1_champion_0 1 rfl rfl)
theorem dX1_champion_2 : decode cX1_champion 2 = .ok (.iconst 1, 1) := dk_4 (dk_at dksX1_champion_0 2 rfl rfl)
theorem dX1_champion_3 : decode cX1_champion 3 = .ok (.invokestatic 170, 3) := dk_184 0 170 (dk_at dksX1_champion_0 3 rfl rfl)
theorem dX1_champion_6 : decode cX1_champion 6 = .ok (.aload_n 0, 1) := dk_42 (dk_at dksX1_champion_0 6 rfl rfl)
theorem dX1_champion_7 : decode cX1_champion 7 = .ok (.iload_n 1, 1) := dk_27 (dk_at dksX1_champion_0 7 rfl rfl)
theorem dX1_champion_8 : decode cX1_champion 8 = .ok (.invokevirtual 382, 3) := dk_182 1 126 (dk_at dksX1_champion_0 8 rfl rfl)
theorem dX1_champion_11 : decode cX1_champion 11 = .ok (.ireturn, 1) := dk_172 (dk_at dksX1_champion_0 11 rfl rfl)
abbrev cX1_tagged : ByteArray := prog_1_method_44_code
def yX1_tagged : MethodName := ⟨RX1, "tagged", "(III)I"⟩
def dkwX1_tagged_2 : List UInt8 := [172]
abbrev dktX1_tagged_2 : List UInt8 := dkwX1_tagged_2 ++ []
def dkwX1_tagged_1 : List UInt8 := [17, 0, 200, 184, 0, 170, 42, 180, 0, 134, 27, 185, 0, 60, 2, 0, 192, 0, 240, 28, 29, 184, 1, 139]
abbrev dktX1_tagged_1 : List UInt8 := dkwX1_tagged_1 ++ dktX1_tagged_2
def dkwX1_tagged_0 : List UInt8 := [27, 42, 180, 0, 134, 185, 0, 56, 1, 0, 184, 0, 157, 28, 4, 17, 3, 255, 184, 0, 170, 29, 3]
abbrev dktX1_tagged_0 : List UInt8 := dkwX1_tagged_0 ++ dktX1_tagged_1
theorem dksX1_tagged_0 : cX1_tagged.data.toList.drop 0 = dktX1_tagged_0 := by decide +kernel
theorem dksX1_tagged_1 : cX1_tagged.data.toList.drop 23 = dktX1_tagged_1 := dk_seg dksX1_tagged_0 23 rfl rfl
theorem dksX1_tagged_2 : cX1_tagged.data.toList.drop 47 = dktX1_tagged_2 := dk_seg dksX1_tagged_1 24 rfl rfl
theorem dX1_tagged_0 : decode cX1_tagged 0 = .ok (.iload_n 1, 1) := dk_27 (dk_at dksX1_tagged_0 0 rfl rfl)
theorem dX1_tagged_1 : decode cX1_tagged 1 = .ok (.aload_n 0, 1) := dk_42 (dk_at dksX1_tagged_0 1 rfl rfl)
theorem dX1_tagged_2 : decode cX1_tagged 2 = .ok (.getfield 134, 3) := dk_180 0 134 (dk_at dksX1_tagged_0 2 rfl rfl)
theorem dX1_tagged_5 : decode cX1_tagged 5 = .ok (.invokeinterface 56 1, 5) := by decide +kernel
theorem dX1_tagged_10 : decode cX1_tagged 10 = .ok (.invokestatic 157, 3) := dk_184 0 157 (dk_at dksX1_tagged_0 10 rfl rfl)
theorem dX1_tagged_13 : decode cX1_tagged 13 = .ok (.iload_n 2, 1) := dk_28 (dk_at dksX1_tagged_0 13 rfl rfl)
theorem dX1_tagged_14 : decode cX1_tagged 14 = .ok (.iconst 1, 1) := dk_4 (dk_at dksX1_tagged_0 14 rfl rfl)
theorem dX1_tagged_15 : decode cX1_tagged 15 = .ok (.sipush 1023, 3) := dk_17 3 255 (dk_at dksX1_tagged_0 15 rfl rfl)
theorem dX1_tagged_18 : decode cX1_tagged 18 = .ok (.invokestatic 170, 3) := dk_184 0 170 (dk_at dksX1_tagged_0 18 rfl rfl)
theorem dX1_tagged_21 : decode cX1_tagged 21 = .ok (.iload_n 3, 1) := dk_29 (dk_at dksX1_tagged_0 21 rfl rfl)
theorem dX1_tagged_22 : decode cX1_tagged 22 = .ok (.iconst 0, 1) := dk_3 (dk_at dksX1_tagged_0 22 rfl rfl)
theorem dX1_tagged_23 : decode cX1_tagged 23 = .ok (.sipush 200, 3) := dk_17 0 200 (dk_at dksX1_tagged_1 0 rfl rfl)
theorem dX1_tagged_26 : decode cX1_tagged 26 = .ok (.invokestatic 170, 3) := dk_184 0 170 (dk_at dksX1_tagged_1 3 rfl rfl)
theorem dX1_tagged_29 : decode cX1_tagged 29 = .ok (.aload_n 0, 1) := dk_42 (dk_at dksX1_tagged_1 6 rfl rfl)
theorem dX1_tagged_30 : decode cX1_tagged 30 = .ok (.getfield 134, 3) := dk_180 0 134 (dk_at dksX1_tagged_1 7 rfl rfl)
theorem dX1_tagged_33 : decode cX1_tagged 33 = .ok (.iload_n 1, 1) := dk_27 (dk_at dksX1_tagged_1 10 rfl rfl)
theorem dX1_tagged_34 : decode cX1_tagged 34 = .ok (.invokeinterface 60 2, 5) := by decide +kernel
theorem dX1_tagged_39 : decode cX1_tagged 39 = .ok (.checkcast 240, 3) := dk_192 0 240 (dk_at dksX1_tagged_1 16 rfl rfl)
theorem dX1_tagged_42 : decode cX1_tagged 42 = .ok (.iload_n 2, 1) := dk_28 (dk_at dksX1_tagged_1 19 rfl rfl)
theorem dX1_tagged_43 : decode cX1_tagged 43 = .ok (.iload_n 3, 1) := dk_29 (dk_at dksX1_tagged_1 20 rfl rfl)
theorem dX1_tagged_44 : decode cX1_tagged 44 = .ok (.invokestatic 395, 3) := dk_184 1 139 (dk_at dksX1_tagged_1 21 rfl rfl)
theorem dX1_tagged_47 : decode cX1_tagged 47 = .ok (.ireturn, 1) := dk_172 (dk_at dksX1_tagged_2 0 rfl rfl)
abbrev cX1_many : ByteArray := prog_1_method_47_code
def yX1_many : MethodName := ⟨RX1, "many", "(I)I"⟩
def dkwX1_many_0 : List UInt8 := [27, 3, 16, 10, 184, 0, 170, 42, 27, 182, 1, 148, 172]
abbrev dktX1_many_0 : List UInt8 := dkwX1_many_0 ++ []
theorem dksX1_many_0 : cX1_many.data.toList.drop 0 = dktX1_many_0 := by decide +kernel
theorem dX1_many_0 : decode cX1_many 0 = .ok (.iload_n 1, 1) := dk_27 (dk_at dksX1_many_0 0 rfl rfl)
theorem dX1_many_1 : decode cX1_many 1 = .ok (.iconst 0, 1) := dk_3 (dk_at dksX1_many_0 1 rfl rfl)
theorem dX1_many_2 : decode cX1_many 2 = .ok (.bipush 10, 2) := dk_16 10 (dk_at dksX1_many_0 2 rfl rfl)
theorem dX1_many_4 : decode cX1_many 4 = .ok (.invokestatic 170, 3) := dk_184 0 170 (dk_at dksX1_many_0 4 rfl rfl)
theorem dX1_many_7 : decode cX1_many 7 = .ok (.aload_n 0, 1) := dk_42 (dk_at dksX1_many_0 7 rfl rfl)
theorem dX1_many_8 : decode cX1_many 8 = .ok (.iload_n 1, 1) := dk_27 (dk_at dksX1_many_0 8 rfl rfl)
theorem dX1_many_9 : decode cX1_many 9 = .ok (.invokevirtual 404, 3) := dk_182 1 148 (dk_at dksX1_many_0 9 rfl rfl)
theorem dX1_many_12 : decode cX1_many 12 = .ok (.ireturn, 1) := dk_172 (dk_at dksX1_many_0 12 rfl rfl)
abbrev cX1_cycleIn : ByteArray := prog_1_method_49_code
def yX1_cycleIn : MethodName := ⟨RX1, "cycleIn", "(II)I"⟩
def dkwX1_cycleIn_0 : List UInt8 := [42, 27, 182, 0, 162, 78, 28, 4, 16, 40, 184, 0, 170, 45, 180, 0, 166, 28, 184, 1, 38, 172]
abbrev dktX1_cycleIn_0 : List UInt8 := dkwX1_cycleIn_0 ++ []
theorem dksX1_cycleIn_0 : cX1_cycleIn.data.toList.drop 0 = dktX1_cycleIn_0 := by decide +kernel
theorem dX1_cycleIn_0 : decode cX1_cycleIn 0 = .ok (.aload_n 0, 1) := dk_42 (dk_at dksX1_cycleIn_0 0 rfl rfl)
theorem dX1_cycleIn_1 : decode cX1_cycleIn 1 = .ok (.iload_n 1, 1) := dk_27 (dk_at dksX1_cycleIn_0 1 rfl rfl)
theorem dX1_cycleIn_2 : decode cX1_cycleIn 2 = .ok (.invokevirtual 162, 3) := dk_182 0 162 (dk_at dksX1_cycleIn_0 2 rfl rfl)
theorem dX1_cycleIn_5 : decode cX1_cycleIn 5 = .ok (.astore_n 3, 1) := dk_78 (dk_at dksX1_cycleIn_0 5 rfl rfl)
theorem dX1_cycleIn_6 : decode cX1_cycleIn 6 = .ok (.iload_n 2, 1) := dk_28 (dk_at dksX1_cycleIn_0 6 rfl rfl)
theorem dX1_cycleIn_7 : decode cX1_cycleIn 7 = .ok (.iconst 1, 1) := dk_4 (dk_at dksX1_cycleIn_0 7 rfl rfl)
theorem dX1_cycleIn_8 : decode cX1_cycleIn 8 = .ok (.bipush 40, 2) := dk_16 40 (dk_at dksX1_cycleIn_0 8 rfl rfl)
theorem dX1_cycleIn_10 : decode cX1_cycleIn 10 = .ok (.invokestatic 170, 3) := dk_184 0 170 (dk_at dksX1_cycleIn_0 10 rfl rfl)
theorem dX1_cycleIn_13 : decode cX1_cycleIn 13 = .ok (.aload_n 3, 1) := dk_45 (dk_at dksX1_cycleIn_0 13 rfl rfl)
theorem dX1_cycleIn_14 : decode cX1_cycleIn 14 = .ok (.getfield 166, 3) := dk_180 0 166 (dk_at dksX1_cycleIn_0 14 rfl rfl)
theorem dX1_cycleIn_17 : decode cX1_cycleIn 17 = .ok (.iload_n 2, 1) := dk_28 (dk_at dksX1_cycleIn_0 17 rfl rfl)
theorem dX1_cycleIn_18 : decode cX1_cycleIn 18 = .ok (.invokestatic 294, 3) := dk_184 1 38 (dk_at dksX1_cycleIn_0 18 rfl rfl)
theorem dX1_cycleIn_21 : decode cX1_cycleIn 21 = .ok (.ireturn, 1) := dk_172 (dk_at dksX1_cycleIn_0 21 rfl rfl)
abbrev cX1_backIn : ByteArray := prog_1_method_51_code
def yX1_backIn : MethodName := ⟨RX1, "backIn", "(I)I"⟩
def dkwX1_backIn_0 : List UInt8 := [42, 27, 182, 0, 162, 180, 0, 166, 184, 1, 42, 172]
abbrev dktX1_backIn_0 : List UInt8 := dkwX1_backIn_0 ++ []
theorem dksX1_backIn_0 : cX1_backIn.data.toList.drop 0 = dktX1_backIn_0 := by decide +kernel
theorem dX1_backIn_0 : decode cX1_backIn 0 = .ok (.aload_n 0, 1) := dk_42 (dk_at dksX1_backIn_0 0 rfl rfl)
theorem dX1_backIn_1 : decode cX1_backIn 1 = .ok (.iload_n 1, 1) := dk_27 (dk_at dksX1_backIn_0 1 rfl rfl)
theorem dX1_backIn_2 : decode cX1_backIn 2 = .ok (.invokevirtual 162, 3) := dk_182 0 162 (dk_at dksX1_backIn_0 2 rfl rfl)
theorem dX1_backIn_5 : decode cX1_backIn 5 = .ok (.getfield 166, 3) := dk_180 0 166 (dk_at dksX1_backIn_0 5 rfl rfl)
theorem dX1_backIn_8 : decode cX1_backIn 8 = .ok (.invokestatic 298, 3) := dk_184 1 42 (dk_at dksX1_backIn_0 8 rfl rfl)
theorem dX1_backIn_11 : decode cX1_backIn 11 = .ok (.ireturn, 1) := dk_172 (dk_at dksX1_backIn_0 11 rfl rfl)
abbrev cX1_gramIn : ByteArray := prog_1_method_53_code
def yX1_gramIn : MethodName := ⟨RX1, "gramIn", "(I)I"⟩
def dkwX1_gramIn_0 : List UInt8 := [42, 27, 182, 0, 162, 180, 0, 166, 184, 1, 46, 172]
abbrev dktX1_gramIn_0 : List UInt8 := dkwX1_gramIn_0 ++ []
theorem dksX1_gramIn_0 : cX1_gramIn.data.toList.drop 0 = dktX1_gramIn_0 := by decide +kernel
theorem dX1_gramIn_0 : decode cX1_gramIn 0 = .ok (.aload_n 0, 1) := dk_42 (dk_at dksX1_gramIn_0 0 rfl rfl)
theorem dX1_gramIn_1 : decode cX1_gramIn 1 = .ok (.iload_n 1, 1) := dk_27 (dk_at dksX1_gramIn_0 1 rfl rfl)
theorem dX1_gramIn_2 : decode cX1_gramIn 2 = .ok (.invokevirtual 162, 3) := dk_182 0 162 (dk_at dksX1_gramIn_0 2 rfl rfl)
theorem dX1_gramIn_5 : decode cX1_gramIn 5 = .ok (.getfield 166, 3) := dk_180 0 166 (dk_at dksX1_gramIn_0 5 rfl rfl)
theorem dX1_gramIn_8 : decode cX1_gramIn 8 = .ok (.invokestatic 302, 3) := dk_184 1 46 (dk_at dksX1_gramIn_0 8 rfl rfl)
theorem dX1_gramIn_11 : decode cX1_gramIn 11 = .ok (.ireturn, 1) := dk_172 (dk_at dksX1_gramIn_0 11 rfl rfl)
theorem q25 : (Jvm.Cond.initialized "Haltingale") ∈ lw_all := lw_g (lw_at lw_m1 1 rfl) rfl
theorem q67 : (Jvm.Cond.instantiable "Haltingale" (3 : Nat)) ∈ lw_all := lw_g (lw_at lw_m1 43 rfl) rfl
theorem q69 : (Jvm.Cond.instanceMethod ({ cls := "Haltingale", name := "<init>", desc := "()V" } : Jvm.MethodName)) ∈ lw_all := lw_g (lw_at lw_m1 45 rfl) rfl
theorem q70 : (Jvm.Cond.code ({ cls := "Haltingale", name := "<init>", desc := "()V" } : Jvm.MethodName) prog_1_method_8_code (1 : Nat) (Option.none : Option Jvm.ClassFile.FieldType)) ∈ lw_all := lw_g (lw_at lw_m1 46 rfl) rfl
theorem q71 : (Jvm.Cond.methodLink "Haltingale" (127 : Nat) ({ cls := "java/lang/Object", name := "<init>", desc := "()V" } : Jvm.MethodName)) ∈ lw_all := lw_g (lw_at lw_m1 47 rfl) rfl
theorem q74 : (Jvm.Cond.classLink "Haltingale" (46 : Nat) "java/util/ArrayList") ∈ lw_all := lw_g (lw_at lw_m1 50 rfl) rfl
theorem q76 : (Jvm.Cond.methodLink "Haltingale" (48 : Nat) ({ cls := "java/util/ArrayList", name := "<init>", desc := "()V" } : Jvm.MethodName)) ∈ lw_all := lw_g (lw_at lw_m1 52 rfl) rfl
theorem q103 : (Jvm.Cond.classLink "Haltingale" (137 : Nat) "Haltingale$Gate") ∈ lw_all := lw_g (lw_at lw_m1 79 rfl) rfl
theorem q105 : (Jvm.Cond.methodLinkNest "Haltingale" (139 : Nat) ({ cls := "Haltingale$Gate", name := "<init>", desc := "()V" } : Jvm.MethodName) "Haltingale") ∈ lw_tbl := lw_at lw_m1 81 rfl
theorem q109 : (Jvm.Cond.fieldLinkNest "Haltingale" (243 : Nat) "Haltingale$Gate" "taken" "I" "Haltingale") ∈ lw_tbl := lw_at lw_m1 85 rfl
theorem q110 : (Jvm.Cond.fieldLinkNest "Haltingale" (251 : Nat) "Haltingale$Gate" "refused" "I" "Haltingale") ∈ lw_tbl := lw_at lw_m1 86 rfl
theorem q111 : (Jvm.Cond.fieldLinkNest "Haltingale" (188 : Nat) "Haltingale$Gate" "takenBack" "I" "Haltingale") ∈ lw_tbl := lw_at lw_m1 87 rfl
theorem q119 : (Jvm.Cond.fieldLink "Haltingale" (130 : Nat) "Haltingale" "machines" "Ljava/util/List;") ∈ lw_all := lw_g (lw_at lw_m1 95 rfl) rfl
theorem q120 : (Jvm.Cond.fieldLink "Haltingale" (134 : Nat) "Haltingale" "tags" "Ljava/util/List;") ∈ lw_all := lw_g (lw_at lw_m1 96 rfl) rfl
theorem q121 : (Jvm.Cond.fieldLink "Haltingale" (140 : Nat) "Haltingale" "gate" "LHaltingale$Gate;") ∈ lw_all := lw_g (lw_at lw_m1 97 rfl) rfl
theorem q122 : (Jvm.Cond.laysFinal "Haltingale" "Haltingale" "machines" "Ljava/util/List;") ∈ lw_all := lw_g (lw_at lw_m1 98 rfl) rfl
theorem q123 : (Jvm.Cond.soleField "Haltingale" "machines") ∈ lw_all := lw_g (lw_at lw_m1 99 rfl) rfl
theorem q124 : (Jvm.Cond.laysFinal "Haltingale" "Haltingale" "tags" "Ljava/util/List;") ∈ lw_all := lw_g (lw_at lw_m1 100 rfl) rfl
theorem q125 : (Jvm.Cond.soleField "Haltingale" "tags") ∈ lw_all := lw_g (lw_at lw_m1 101 rfl) rfl
theorem q126 : (Jvm.Cond.laysFinal "Haltingale" "Haltingale" "gate" "LHaltingale$Gate;") ∈ lw_all := lw_g (lw_at lw_m1 102 rfl) rfl
theorem q127 : (Jvm.Cond.soleField "Haltingale" "gate") ∈ lw_all := lw_g (lw_at lw_m1 103 rfl) rfl
theorem q128 : (Jvm.Cond.superclass "Haltingale" "java/lang/Object") ∈ lw_all := lw_g (lw_at lw_m1 104 rfl) rfl
theorem q130 : (Jvm.Cond.instanceMethod ({ cls := "Haltingale", name := "meanStop", desc := "()D" } : Jvm.MethodName)) ∈ lw_all := lw_g (lw_at lw_m1 106 rfl) rfl
theorem q131 : (Jvm.Cond.selects "Haltingale" ({ cls := "Haltingale", name := "meanStop", desc := "()D" } : Jvm.MethodName) ({ cls := "Haltingale", name := "meanStop", desc := "()D" } : Jvm.MethodName)) ∈ lw_all := lw_g (lw_at lw_m1 107 rfl) rfl
theorem q132 : (Jvm.Cond.code ({ cls := "Haltingale", name := "meanStop", desc := "()D" } : Jvm.MethodName) prog_1_method_48_code (5 : Nat) (Option.some Jvm.ClassFile.FieldType.double)) ∈ lw_all := lw_g (lw_at lw_m1 108 rfl) rfl
theorem q133 : (Jvm.Cond.interfaceEntry "Haltingale" (56 : Nat)) ∈ lw_tbl := lw_at lw_m1 109 rfl
theorem q134 : (Jvm.Cond.methodLink "Haltingale" (56 : Nat) ({ cls := "java/util/List", name := "size", desc := "()I" } : Jvm.MethodName)) ∈ lw_all := lw_g (lw_at lw_m1 110 rfl) rfl
theorem q143 : (Jvm.Cond.interfaceEntry "Haltingale" (60 : Nat)) ∈ lw_tbl := lw_at lw_m1 119 rfl
theorem q144 : (Jvm.Cond.methodLink "Haltingale" (60 : Nat) ({ cls := "java/util/List", name := "get", desc := "(I)Ljava/lang/Object;" } : Jvm.MethodName)) ∈ lw_all := lw_g (lw_at lw_m1 120 rfl) rfl
theorem q162 : (Jvm.Cond.classLink "Haltingale" (160 : Nat) "Haltingale$Machine") ∈ lw_all := lw_g (lw_at lw_m1 138 rfl) rfl
theorem q163 : (Jvm.Cond.fieldLink "Haltingale" (254 : Nat) "Haltingale$Kind" "STOP" "LHaltingale$Kind;") ∈ lw_all := lw_g (lw_at lw_m1 139 rfl) rfl
theorem q165 : (Jvm.Cond.methodLink "Haltingale" (290 : Nat) ({ cls := "Haltingale$Machine", name := "isDecidedBy", desc := "(LHaltingale$Kind;)Z" } : Jvm.MethodName)) ∈ lw_all := lw_g (lw_at lw_m1 141 rfl) rfl
theorem q184 : (Jvm.Cond.instanceMethod ({ cls := "Haltingale", name := "digest", desc := "()J" } : Jvm.MethodName)) ∈ lw_all := lw_g (lw_at lw_m1 160 rfl) rfl
theorem q185 : (Jvm.Cond.selects "Haltingale" ({ cls := "Haltingale", name := "digest", desc := "()J" } : Jvm.MethodName) ({ cls := "Haltingale", name := "digest", desc := "()J" } : Jvm.MethodName)) ∈ lw_all := lw_g (lw_at lw_m1 161 rfl) rfl
theorem q186 : (Jvm.Cond.code ({ cls := "Haltingale", name := "digest", desc := "()J" } : Jvm.MethodName) prog_1_method_55_code (3 : Nat) (Option.some Jvm.ClassFile.FieldType.long)) ∈ lw_all := lw_g (lw_at lw_m1 162 rfl) rfl
theorem q187 : (Jvm.Cond.classLink "Haltingale" (411 : Nat) "Haltingale$Sum") ∈ lw_all := lw_g (lw_at lw_m1 163 rfl) rfl
theorem q189 : (Jvm.Cond.constantLong "Haltingale" (415 : Nat) (58237 : Int64)) ∈ lw_all := lw_g (lw_at lw_m1 165 rfl) rfl
theorem q190 : (Jvm.Cond.methodLink "Haltingale" (417 : Nat) ({ cls := "Haltingale$Sum", name := "<init>", desc := "(J)V" } : Jvm.MethodName)) ∈ lw_all := lw_g (lw_at lw_m1 166 rfl) rfl
theorem q198 : (Jvm.Cond.methodLink "Haltingale" (404 : Nat) ({ cls := "Haltingale", name := "manyNow", desc := "(I)I" } : Jvm.MethodName)) ∈ lw_all := lw_g (lw_at lw_m1 174 rfl) rfl
theorem q199 : (Jvm.Cond.privateMethod ({ cls := "Haltingale", name := "manyNow", desc := "(I)I" } : Jvm.MethodName)) ∈ lw_tbl := lw_at lw_m1 175 rfl
theorem q200 : (Jvm.Cond.instanceMethod ({ cls := "Haltingale", name := "manyNow", desc := "(I)I" } : Jvm.MethodName)) ∈ lw_all := lw_g (lw_at lw_m1 176 rfl) rfl
theorem q201 : (Jvm.Cond.code ({ cls := "Haltingale", name := "manyNow", desc := "(I)I" } : Jvm.MethodName) prog_1_method_46_code (4 : Nat) (Option.some Jvm.ClassFile.FieldType.int)) ∈ lw_all := lw_g (lw_at lw_m1 177 rfl) rfl
theorem q202 : (Jvm.Cond.methodLink "Haltingale" (276 : Nat) ({ cls := "Haltingale$Machine", name := "isDecided", desc := "()Z" } : Jvm.MethodName)) ∈ lw_all := lw_g (lw_at lw_m1 178 rfl) rfl
theorem q206 : (Jvm.Cond.classLink "Haltingale" (240 : Nat) "Haltingale$Tag") ∈ lw_all := lw_g (lw_at lw_m1 182 rfl) rfl
theorem q209 : (Jvm.Cond.methodLink "Haltingale" (213 : Nat) ({ cls := "Haltingale$Table", name := "empty", desc := "()I" } : Jvm.MethodName)) ∈ lw_all := lw_g (lw_at lw_m1 185 rfl) rfl
theorem q219 : (Jvm.Cond.methodLink "Haltingale" (269 : Nat) ({ cls := "Haltingale", name := "kindOf", desc := "(I)LHaltingale$Kind;" } : Jvm.MethodName)) ∈ lw_all := lw_g (lw_at lw_m1 195 rfl) rfl
theorem q220 : (Jvm.Cond.static ({ cls := "Haltingale", name := "kindOf", desc := "(I)LHaltingale$Kind;" } : Jvm.MethodName)) ∈ lw_all := lw_g (lw_at lw_m1 196 rfl) rfl
theorem q221 : (Jvm.Cond.code ({ cls := "Haltingale", name := "kindOf", desc := "(I)LHaltingale$Kind;" } : Jvm.MethodName) prog_1_method_25_code (1 : Nat) (Option.some (Jvm.ClassFile.FieldType.object "Haltingale$Kind"))) ∈ lw_all := lw_g (lw_at lw_m1 197 rfl) rfl
theorem q222 : (Jvm.Cond.methodLink "Haltingale" (170 : Nat) ({ cls := "Haltingale", name := "mustBeIn", desc := "(III)V" } : Jvm.MethodName)) ∈ lw_all := lw_g (lw_at lw_m1 198 rfl) rfl
theorem q223 : (Jvm.Cond.static ({ cls := "Haltingale", name := "mustBeIn", desc := "(III)V" } : Jvm.MethodName)) ∈ lw_all := lw_g (lw_at lw_m1 199 rfl) rfl
theorem q224 : (Jvm.Cond.code ({ cls := "Haltingale", name := "mustBeIn", desc := "(III)V" } : Jvm.MethodName) prog_1_method_10_code (3 : Nat) (Option.none : Option Jvm.ClassFile.FieldType)) ∈ lw_all := lw_g (lw_at lw_m1 200 rfl) rfl
theorem q225 : (Jvm.Cond.methodLink "Haltingale" (147 : Nat) ({ cls := "Haltingale", name := "must", desc := "(Z)V" } : Jvm.MethodName)) ∈ lw_all := lw_g (lw_at lw_m1 201 rfl) rfl
theorem q226 : (Jvm.Cond.static ({ cls := "Haltingale", name := "must", desc := "(Z)V" } : Jvm.MethodName)) ∈ lw_all := lw_g (lw_at lw_m1 202 rfl) rfl
theorem q227 : (Jvm.Cond.code ({ cls := "Haltingale", name := "must", desc := "(Z)V" } : Jvm.MethodName) prog_1_method_9_code (1 : Nat) (Option.none : Option Jvm.ClassFile.FieldType)) ∈ lw_all := lw_g (lw_at lw_m1 203 rfl) rfl
theorem q228 : (Jvm.Cond.classLink "Haltingale" (144 : Nat) "java/lang/IllegalArgumentException") ∈ lw_all := lw_g (lw_at lw_m1 204 rfl) rfl
theorem q271 : (Jvm.Cond.methodLink "Haltingale" (146 : Nat) ({ cls := "java/lang/IllegalArgumentException", name := "<init>", desc := "()V" } : Jvm.MethodName)) ∈ lw_all := lw_g (lw_at lw_m2 7 rfl) rfl
theorem q294 : (Jvm.Cond.fieldLink "Haltingale" (260 : Nat) "Haltingale$Kind" "CYCLE" "LHaltingale$Kind;") ∈ lw_all := lw_g (lw_at lw_m2 30 rfl) rfl
theorem q296 : (Jvm.Cond.fieldLink "Haltingale" (263 : Nat) "Haltingale$Kind" "BACK" "LHaltingale$Kind;") ∈ lw_all := lw_g (lw_at lw_m2 32 rfl) rfl
theorem q298 : (Jvm.Cond.fieldLink "Haltingale" (266 : Nat) "Haltingale$Kind" "GRAM" "LHaltingale$Kind;") ∈ lw_all := lw_g (lw_at lw_m2 34 rfl) rfl
theorem q300 : (Jvm.Cond.methodLink "Haltingale" (400 : Nat) ({ cls := "Haltingale", name := "decidedBy", desc := "(LHaltingale$Kind;)I" } : Jvm.MethodName)) ∈ lw_all := lw_g (lw_at lw_m2 36 rfl) rfl
theorem q301 : (Jvm.Cond.privateMethod ({ cls := "Haltingale", name := "decidedBy", desc := "(LHaltingale$Kind;)I" } : Jvm.MethodName)) ∈ lw_tbl := lw_at lw_m2 37 rfl
theorem q302 : (Jvm.Cond.instanceMethod ({ cls := "Haltingale", name := "decidedBy", desc := "(LHaltingale$Kind;)I" } : Jvm.MethodName)) ∈ lw_all := lw_g (lw_at lw_m2 38 rfl) rfl
theorem q303 : (Jvm.Cond.code ({ cls := "Haltingale", name := "decidedBy", desc := "(LHaltingale$Kind;)I" } : Jvm.MethodName) prog_1_method_45_code (4 : Nat) (Option.some Jvm.ClassFile.FieldType.int)) ∈ lw_all := lw_g (lw_at lw_m2 39 rfl) rfl
theorem q304 : (Jvm.Cond.methodLink "Haltingale" (410 : Nat) ({ cls := "Haltingale$Sum", name := "add", desc := "(I)J" } : Jvm.MethodName)) ∈ lw_all := lw_g (lw_at lw_m2 40 rfl) rfl
theorem q309 : (Jvm.Cond.methodLink "Haltingale" (420 : Nat) ({ cls := "Haltingale", name := "mixMachine", desc := "(LHaltingale$Sum;LHaltingale$Machine;)V" } : Jvm.MethodName)) ∈ lw_all := lw_g (lw_at lw_m2 45 rfl) rfl
theorem q310 : (Jvm.Cond.static ({ cls := "Haltingale", name := "mixMachine", desc := "(LHaltingale$Sum;LHaltingale$Machine;)V" } : Jvm.MethodName)) ∈ lw_all := lw_g (lw_at lw_m2 46 rfl) rfl
theorem q311 : (Jvm.Cond.code ({ cls := "Haltingale", name := "mixMachine", desc := "(LHaltingale$Sum;LHaltingale$Machine;)V" } : Jvm.MethodName) prog_1_method_54_code (5 : Nat) (Option.none : Option Jvm.ClassFile.FieldType)) ∈ lw_all := lw_g (lw_at lw_m2 47 rfl) rfl
theorem q312 : (Jvm.Cond.methodLink "Haltingale" (222 : Nat) ({ cls := "Haltingale", name := "walked", desc := "(LHaltingale$Machine;I)LHaltingale$Walker;" } : Jvm.MethodName)) ∈ lw_all := lw_g (lw_at lw_m2 48 rfl) rfl
theorem q313 : (Jvm.Cond.static ({ cls := "Haltingale", name := "walked", desc := "(LHaltingale$Machine;I)LHaltingale$Walker;" } : Jvm.MethodName)) ∈ lw_all := lw_g (lw_at lw_m2 49 rfl) rfl
theorem q314 : (Jvm.Cond.code ({ cls := "Haltingale", name := "walked", desc := "(LHaltingale$Machine;I)LHaltingale$Walker;" } : Jvm.MethodName) prog_1_method_20_code (2 : Nat) (Option.some (Jvm.ClassFile.FieldType.object "Haltingale$Walker"))) ∈ lw_all := lw_g (lw_at lw_m2 50 rfl) rfl
theorem q315 : (Jvm.Cond.classLink "Haltingale" (3 : Nat) "Haltingale$Walker") ∈ lw_all := lw_g (lw_at lw_m2 51 rfl) rfl
theorem q317 : (Jvm.Cond.methodLink "Haltingale" (5 : Nat) ({ cls := "Haltingale$Walker", name := "<init>", desc := "(LHaltingale$Table;I)V" } : Jvm.MethodName)) ∈ lw_all := lw_g (lw_at lw_m2 53 rfl) rfl
theorem q322 : (Jvm.Cond.fieldLinkNest "Haltingale" (218 : Nat) "Haltingale$Walker" "table" "LHaltingale$Table;" "Haltingale") ∈ lw_tbl := lw_at lw_m2 58 rfl
theorem q329 : (Jvm.Cond.fieldLinkNest "Haltingale" (234 : Nat) "Haltingale$Walker" "state" "I" "Haltingale") ∈ lw_tbl := lw_at lw_m2 65 rfl
theorem q331 : (Jvm.Cond.fieldLinkNest "Haltingale" (18 : Nat) "Haltingale$Walker" "place" "I" "Haltingale") ∈ lw_tbl := lw_at lw_m2 67 rfl
theorem q334 : (Jvm.Cond.fieldLinkNest "Haltingale" (352 : Nat) "Haltingale$Walker" "least" "I" "Haltingale") ∈ lw_tbl := lw_at lw_m2 70 rfl
theorem q336 : (Jvm.Cond.fieldLinkNest "Haltingale" (349 : Nat) "Haltingale$Walker" "greatest" "I" "Haltingale") ∈ lw_tbl := lw_at lw_m2 72 rfl
theorem q337 : (Jvm.Cond.fieldLinkNest "Haltingale" (39 : Nat) "Haltingale$Walker" "steps" "I" "Haltingale") ∈ lw_tbl := lw_at lw_m2 73 rfl
theorem q359 : (Jvm.Cond.methodLink "Haltingale" (9 : Nat) ({ cls := "Haltingale$Walker", name := "walk", desc := "(I)LHaltingale$Walker;" } : Jvm.MethodName)) ∈ lw_all := lw_g (lw_at lw_m2 95 rfl) rfl
theorem q396 : (Jvm.Cond.methodLink "Haltingale" (344 : Nat) ({ cls := "Haltingale", name := "machineNow", desc := "(LHaltingale$Machine;LHaltingale$Walker;I)I" } : Jvm.MethodName)) ∈ lw_all := lw_g (lw_at lw_m2 132 rfl) rfl
theorem q397 : (Jvm.Cond.static ({ cls := "Haltingale", name := "machineNow", desc := "(LHaltingale$Machine;LHaltingale$Walker;I)I" } : Jvm.MethodName)) ∈ lw_all := lw_g (lw_at lw_m2 133 rfl) rfl
theorem q398 : (Jvm.Cond.code ({ cls := "Haltingale", name := "machineNow", desc := "(LHaltingale$Machine;LHaltingale$Walker;I)I" } : Jvm.MethodName) prog_1_method_32_code (3 : Nat) (Option.some Jvm.ClassFile.FieldType.int)) ∈ lw_all := lw_g (lw_at lw_m2 134 rfl) rfl
theorem q399 : (Jvm.Cond.methodLink "Haltingale" (104 : Nat) ({ cls := "java/util/Optional", name := "get", desc := "()Ljava/lang/Object;" } : Jvm.MethodName)) ∈ lw_all := lw_g (lw_at lw_m2 135 rfl) rfl
theorem q400 : (Jvm.Cond.classLink "Haltingale" (255 : Nat) "Haltingale$Kind") ∈ lw_all := lw_g (lw_at lw_m2 136 rfl) rfl
theorem q401 : (Jvm.Cond.methodLink "Haltingale" (312 : Nat) ({ cls := "Haltingale$Kind", name := "ordinal", desc := "()I" } : Jvm.MethodName)) ∈ lw_all := lw_g (lw_at lw_m2 137 rfl) rfl
theorem q410 : (Jvm.Cond.methodLink "Haltingale" (226 : Nat) ({ cls := "Haltingale", name := "waysOf", desc := "(LHaltingale$Walker;)I" } : Jvm.MethodName)) ∈ lw_all := lw_g (lw_at lw_m2 146 rfl) rfl
theorem q411 : (Jvm.Cond.static ({ cls := "Haltingale", name := "waysOf", desc := "(LHaltingale$Walker;)I" } : Jvm.MethodName)) ∈ lw_all := lw_g (lw_at lw_m2 147 rfl) rfl
theorem q412 : (Jvm.Cond.code ({ cls := "Haltingale", name := "waysOf", desc := "(LHaltingale$Walker;)I" } : Jvm.MethodName) prog_1_method_21_code (1 : Nat) (Option.some Jvm.ClassFile.FieldType.int)) ∈ lw_all := lw_g (lw_at lw_m2 148 rfl) rfl
theorem q413 : (Jvm.Cond.methodLink "Haltingale" (215 : Nat) ({ cls := "Haltingale$Walker", name := "hangs", desc := "()Z" } : Jvm.MethodName)) ∈ lw_all := lw_g (lw_at lw_m2 149 rfl) rfl
theorem q414 : (Jvm.Cond.methodLink "Haltingale" (219 : Nat) ({ cls := "Haltingale$Table", name := "reachable", desc := "()I" } : Jvm.MethodName)) ∈ lw_all := lw_g (lw_at lw_m2 150 rfl) rfl
theorem q422 : (Jvm.Cond.methodLink "Haltingale" (340 : Nat) ({ cls := "Haltingale", name := "scoreOf", desc := "(LHaltingale$Walker;I)I" } : Jvm.MethodName)) ∈ lw_all := lw_g (lw_at lw_m2 158 rfl) rfl
theorem q423 : (Jvm.Cond.static ({ cls := "Haltingale", name := "scoreOf", desc := "(LHaltingale$Walker;I)I" } : Jvm.MethodName)) ∈ lw_all := lw_g (lw_at lw_m2 159 rfl) rfl
theorem q424 : (Jvm.Cond.code ({ cls := "Haltingale", name := "scoreOf", desc := "(LHaltingale$Walker;I)I" } : Jvm.MethodName) prog_1_method_31_code (2 : Nat) (Option.some Jvm.ClassFile.FieldType.int)) ∈ lw_all := lw_g (lw_at lw_m2 160 rfl) rfl
theorem q425 : (Jvm.Cond.methodLink "Haltingale" (305 : Nat) ({ cls := "Haltingale$Walker", name := "hasStopped", desc := "()Z" } : Jvm.MethodName)) ∈ lw_all := lw_g (lw_at lw_m2 161 rfl) rfl
theorem q426 : (Jvm.Cond.methodLink "Haltingale" (328 : Nat) ({ cls := "Haltingale$Walker", name := "ones", desc := "()I" } : Jvm.MethodName)) ∈ lw_all := lw_g (lw_at lw_m2 162 rfl) rfl
theorem q430 : (Jvm.Cond.methodLink "Haltingale" (331 : Nat) ({ cls := "java/lang/Math", name := "abs", desc := "(I)I" } : Jvm.MethodName)) ∈ lw_all := lw_g (lw_at lw_m2 166 rfl) rfl
theorem q433 : (Jvm.Cond.methodLink "Haltingale" (324 : Nat) ({ cls := "Haltingale", name := "cellNow", desc := "(LHaltingale$Table;III)I" } : Jvm.MethodName)) ∈ lw_all := lw_g (lw_at lw_m2 169 rfl) rfl
theorem q434 : (Jvm.Cond.static ({ cls := "Haltingale", name := "cellNow", desc := "(LHaltingale$Table;III)I" } : Jvm.MethodName)) ∈ lw_all := lw_g (lw_at lw_m2 170 rfl) rfl
theorem q435 : (Jvm.Cond.code ({ cls := "Haltingale", name := "cellNow", desc := "(LHaltingale$Table;III)I" } : Jvm.MethodName) prog_1_method_29_code (5 : Nat) (Option.some Jvm.ClassFile.FieldType.int)) ∈ lw_all := lw_g (lw_at lw_m2 171 rfl) rfl
theorem q436 : (Jvm.Cond.methodLink "Haltingale" (95 : Nat) ({ cls := "Haltingale$Table", name := "cell", desc := "(II)Ljava/util/Optional;" } : Jvm.MethodName)) ∈ lw_all := lw_g (lw_at lw_m2 172 rfl) rfl
theorem q437 : (Jvm.Cond.methodLink "Haltingale" (99 : Nat) ({ cls := "java/util/Optional", name := "isPresent", desc := "()Z" } : Jvm.MethodName)) ∈ lw_all := lw_g (lw_at lw_m2 173 rfl) rfl
theorem q438 : (Jvm.Cond.classLink "Haltingale" (107 : Nat) "Haltingale$Rule") ∈ lw_all := lw_g (lw_at lw_m2 174 rfl) rfl
theorem q439 : (Jvm.Cond.methodLink "Haltingale" (36 : Nat) ({ cls := "java/lang/Math", name := "max", desc := "(II)I" } : Jvm.MethodName)) ∈ lw_all := lw_g (lw_at lw_m2 175 rfl) rfl
theorem q440 : (Jvm.Cond.methodLink "Haltingale" (361 : Nat) ({ cls := "Haltingale", name := "atNow", desc := "(LHaltingale$Walker;I)I" } : Jvm.MethodName)) ∈ lw_all := lw_g (lw_at lw_m2 176 rfl) rfl
theorem q441 : (Jvm.Cond.static ({ cls := "Haltingale", name := "atNow", desc := "(LHaltingale$Walker;I)I" } : Jvm.MethodName)) ∈ lw_all := lw_g (lw_at lw_m2 177 rfl) rfl
theorem q442 : (Jvm.Cond.code ({ cls := "Haltingale", name := "atNow", desc := "(LHaltingale$Walker;I)I" } : Jvm.MethodName) prog_1_method_35_code (2 : Nat) (Option.some Jvm.ClassFile.FieldType.int)) ∈ lw_all := lw_g (lw_at lw_m2 178 rfl) rfl
theorem q443 : (Jvm.Cond.methodLink "Haltingale" (355 : Nat) ({ cls := "Haltingale", name := "eighths", desc := "(LHaltingale$Walker;)I" } : Jvm.MethodName)) ∈ lw_all := lw_g (lw_at lw_m2 179 rfl) rfl
theorem q444 : (Jvm.Cond.static ({ cls := "Haltingale", name := "eighths", desc := "(LHaltingale$Walker;)I" } : Jvm.MethodName)) ∈ lw_all := lw_g (lw_at lw_m2 180 rfl) rfl
theorem q445 : (Jvm.Cond.code ({ cls := "Haltingale", name := "eighths", desc := "(LHaltingale$Walker;)I" } : Jvm.MethodName) prog_1_method_34_code (2 : Nat) (Option.some Jvm.ClassFile.FieldType.int)) ∈ lw_all := lw_g (lw_at lw_m2 181 rfl) rfl
theorem q446 : (Jvm.Cond.constantFloat "Haltingale" (348 : Nat) (1090519040 : UInt32)) ∈ lw_all := lw_g (lw_at lw_m2 182 rfl) rfl
theorem q447 : (Jvm.Cond.methodLink "Haltingale" (358 : Nat) ({ cls := "Haltingale$Walker", name := "told", desc := "(I)I" } : Jvm.MethodName)) ∈ lw_all := lw_g (lw_at lw_m2 183 rfl) rfl
theorem q456 : (Jvm.Cond.methodLink "Haltingale" (294 : Nat) ({ cls := "Haltingale", name := "cycleNow", desc := "(LHaltingale$Table;I)I" } : Jvm.MethodName)) ∈ lw_all := lw_g (lw_at lw_m2 192 rfl) rfl
theorem q457 : (Jvm.Cond.static ({ cls := "Haltingale", name := "cycleNow", desc := "(LHaltingale$Table;I)I" } : Jvm.MethodName)) ∈ lw_all := lw_g (lw_at lw_m2 193 rfl) rfl
theorem q458 : (Jvm.Cond.code ({ cls := "Haltingale", name := "cycleNow", desc := "(LHaltingale$Table;I)I" } : Jvm.MethodName) prog_1_method_4_code (5 : Nat) (Option.some Jvm.ClassFile.FieldType.int)) ∈ lw_all := lw_g (lw_at lw_m2 194 rfl) rfl
theorem q459 : (Jvm.Cond.methodLink "Haltingale" (65 : Nat) ({ cls := "Haltingale", name := "looks", desc := "(LHaltingale$Table;I)Ljava/util/List;" } : Jvm.MethodName)) ∈ lw_all := lw_g (lw_at lw_m2 195 rfl) rfl
theorem q460 : (Jvm.Cond.static ({ cls := "Haltingale", name := "looks", desc := "(LHaltingale$Table;I)Ljava/util/List;" } : Jvm.MethodName)) ∈ lw_all := lw_g (lw_at lw_m2 196 rfl) rfl
theorem q461 : (Jvm.Cond.code ({ cls := "Haltingale", name := "looks", desc := "(LHaltingale$Table;I)Ljava/util/List;" } : Jvm.MethodName) prog_1_method_2_code (4 : Nat) (Option.some (Jvm.ClassFile.FieldType.object "java/util/List"))) ∈ lw_all := lw_g (lw_at lw_m2 197 rfl) rfl
theorem q462 : (Jvm.Cond.classLink "Haltingale" (13 : Nat) "Haltingale$Look") ∈ lw_all := lw_g (lw_at lw_m2 198 rfl) rfl
theorem q464 : (Jvm.Cond.methodLink "Haltingale" (15 : Nat) ({ cls := "Haltingale$Look", name := "<init>", desc := "(LHaltingale$Walker;)V" } : Jvm.MethodName)) ∈ lw_all := lw_g (lw_at lw_m2 200 rfl) rfl
theorem q473 : (Jvm.Cond.fieldLinkNest "Haltingale" (64 : Nat) "Haltingale$Look" "place" "I" "Haltingale") ∈ lw_tbl := lw_at lw_m2 209 rfl
theorem q485 : (Jvm.Cond.interfaceEntry "Haltingale" (50 : Nat)) ∈ lw_tbl := lw_at lw_m2 221 rfl
theorem q486 : (Jvm.Cond.methodLink "Haltingale" (50 : Nat) ({ cls := "java/util/List", name := "add", desc := "(Ljava/lang/Object;)Z" } : Jvm.MethodName)) ∈ lw_all := lw_g (lw_at lw_m2 222 rfl) rfl
theorem q520 : (Jvm.Cond.selects "Haltingale" ({ cls := "java/lang/Object", name := "getClass", desc := "()Ljava/lang/Class;" } : Jvm.MethodName) ({ cls := "java/lang/Object", name := "getClass", desc := "()Ljava/lang/Class;" } : Jvm.MethodName)) ∈ lw_all := lw_g (lw_at lw_m3 16 rfl) rfl
theorem q557 : (Jvm.Cond.methodLink "Haltingale" (22 : Nat) ({ cls := "Haltingale$Walker", name := "goesOn", desc := "()Z" } : Jvm.MethodName)) ∈ lw_all := lw_g (lw_at lw_m3 53 rfl) rfl
theorem q558 : (Jvm.Cond.methodLink "Haltingale" (26 : Nat) ({ cls := "Haltingale$Walker", name := "step", desc := "()V" } : Jvm.MethodName)) ∈ lw_all := lw_g (lw_at lw_m3 54 rfl) rfl
theorem q559 : (Jvm.Cond.methodLink "Haltingale" (69 : Nat) ({ cls := "Haltingale", name := "isCycle", desc := "(Ljava/util/List;II)Z" } : Jvm.MethodName)) ∈ lw_all := lw_g (lw_at lw_m3 55 rfl) rfl
theorem q560 : (Jvm.Cond.static ({ cls := "Haltingale", name := "isCycle", desc := "(Ljava/util/List;II)Z" } : Jvm.MethodName)) ∈ lw_all := lw_g (lw_at lw_m3 56 rfl) rfl
theorem q561 : (Jvm.Cond.code ({ cls := "Haltingale", name := "isCycle", desc := "(Ljava/util/List;II)Z" } : Jvm.MethodName) prog_1_method_3_code (6 : Nat) (Option.some Jvm.ClassFile.FieldType.boolean)) ∈ lw_all := lw_g (lw_at lw_m3 57 rfl) rfl
theorem q562 : (Jvm.Cond.methodLink "Haltingale" (30 : Nat) ({ cls := "java/lang/Math", name := "min", desc := "(II)I" } : Jvm.MethodName)) ∈ lw_all := lw_g (lw_at lw_m3 58 rfl) rfl
theorem q563 : (Jvm.Cond.methodLink "Haltingale" (42 : Nat) ({ cls := "Haltingale$Look", name := "comesAgain", desc := "(LHaltingale$Look;II)Z" } : Jvm.MethodName)) ∈ lw_all := lw_g (lw_at lw_m3 59 rfl) rfl
theorem q571 : (Jvm.Cond.methodLink "Haltingale" (298 : Nat) ({ cls := "Haltingale", name := "backNow", desc := "(LHaltingale$Table;)I" } : Jvm.MethodName)) ∈ lw_all := lw_g (lw_at lw_m3 67 rfl) rfl
theorem q572 : (Jvm.Cond.static ({ cls := "Haltingale", name := "backNow", desc := "(LHaltingale$Table;)I" } : Jvm.MethodName)) ∈ lw_all := lw_g (lw_at lw_m3 68 rfl) rfl
theorem q573 : (Jvm.Cond.code ({ cls := "Haltingale", name := "backNow", desc := "(LHaltingale$Table;)I" } : Jvm.MethodName) prog_1_method_50_code (3 : Nat) (Option.some Jvm.ClassFile.FieldType.int)) ∈ lw_all := lw_g (lw_at lw_m3 69 rfl) rfl
theorem q574 : (Jvm.Cond.methodLink "Haltingale" (407 : Nat) ({ cls := "Haltingale", name := "emptyDepth", desc := "(LHaltingale$Table;)I" } : Jvm.MethodName)) ∈ lw_all := lw_g (lw_at lw_m3 70 rfl) rfl
theorem q575 : (Jvm.Cond.static ({ cls := "Haltingale", name := "emptyDepth", desc := "(LHaltingale$Table;)I" } : Jvm.MethodName)) ∈ lw_all := lw_g (lw_at lw_m3 71 rfl) rfl
theorem q576 : (Jvm.Cond.code ({ cls := "Haltingale", name := "emptyDepth", desc := "(LHaltingale$Table;)I" } : Jvm.MethodName) prog_1_method_7_code (3 : Nat) (Option.some Jvm.ClassFile.FieldType.int)) ∈ lw_all := lw_g (lw_at lw_m3 72 rfl) rfl
theorem q577 : (Jvm.Cond.methodLink "Haltingale" (117 : Nat) ({ cls := "Haltingale", name := "ends", desc := "(LHaltingale$Table;)Ljava/util/List;" } : Jvm.MethodName)) ∈ lw_all := lw_g (lw_at lw_m3 73 rfl) rfl
theorem q578 : (Jvm.Cond.static ({ cls := "Haltingale", name := "ends", desc := "(LHaltingale$Table;)Ljava/util/List;" } : Jvm.MethodName)) ∈ lw_all := lw_g (lw_at lw_m3 74 rfl) rfl
theorem q579 : (Jvm.Cond.code ({ cls := "Haltingale", name := "ends", desc := "(LHaltingale$Table;)Ljava/util/List;" } : Jvm.MethodName) prog_1_method_5_code (4 : Nat) (Option.some (Jvm.ClassFile.FieldType.object "java/util/List"))) ∈ lw_all := lw_g (lw_at lw_m3 75 rfl) rfl
theorem q580 : (Jvm.Cond.methodLink "Haltingale" (78 : Nat) ({ cls := "Haltingale$Table", name := "endsAt", desc := "(II)Z" } : Jvm.MethodName)) ∈ lw_all := lw_g (lw_at lw_m3 76 rfl) rfl
theorem q585 : (Jvm.Cond.classLink "Haltingale" (82 : Nat) "Haltingale$Row") ∈ lw_all := lw_g (lw_at lw_m3 81 rfl) rfl
theorem q587 : (Jvm.Cond.methodLink "Haltingale" (84 : Nat) ({ cls := "Haltingale$Row", name := "<init>", desc := "(II)V" } : Jvm.MethodName)) ∈ lw_all := lw_g (lw_at lw_m3 83 rfl) rfl
theorem q594 : (Jvm.Cond.fieldLinkNest "Haltingale" (87 : Nat) "Haltingale$Row" "known" "[I" "Haltingale") ∈ lw_tbl := lw_at lw_m3 90 rfl
theorem q602 : (Jvm.Cond.methodLinkNest "Haltingale" (91 : Nat) ({ cls := "Haltingale$Row", name := "at", desc := "(I)I" } : Jvm.MethodName) "Haltingale") ∈ lw_tbl := lw_at lw_m3 98 rfl
theorem q605 : (Jvm.Cond.methodLink "Haltingale" (121 : Nat) ({ cls := "Haltingale", name := "ahead", desc := "(LHaltingale$Table;Ljava/util/List;)Ljava/util/List;" } : Jvm.MethodName)) ∈ lw_all := lw_g (lw_at lw_m3 101 rfl) rfl
theorem q606 : (Jvm.Cond.static ({ cls := "Haltingale", name := "ahead", desc := "(LHaltingale$Table;Ljava/util/List;)Ljava/util/List;" } : Jvm.MethodName)) ∈ lw_all := lw_g (lw_at lw_m3 102 rfl) rfl
theorem q607 : (Jvm.Cond.code ({ cls := "Haltingale", name := "ahead", desc := "(LHaltingale$Table;Ljava/util/List;)Ljava/util/List;" } : Jvm.MethodName) prog_1_method_6_code (7 : Nat) (Option.some (Jvm.ClassFile.FieldType.object "java/util/List"))) ∈ lw_all := lw_g (lw_at lw_m3 103 rfl) rfl
theorem q608 : (Jvm.Cond.methodLink "Haltingale" (109 : Nat) ({ cls := "Haltingale$Row", name := "ahead", desc := "(IILHaltingale$Rule;)Ljava/util/Optional;" } : Jvm.MethodName)) ∈ lw_all := lw_g (lw_at lw_m3 104 rfl) rfl
theorem q637 : (Jvm.Cond.methodLink "Haltingale" (113 : Nat) ({ cls := "java/util/Optional", name := "empty", desc := "()Ljava/util/Optional;" } : Jvm.MethodName)) ∈ lw_all := lw_g (lw_at lw_m3 133 rfl) rfl
theorem q638 : (Jvm.Cond.interfaceEntry "Haltingale" (124 : Nat)) ∈ lw_tbl := lw_at lw_m3 134 rfl
theorem q639 : (Jvm.Cond.methodLink "Haltingale" (124 : Nat) ({ cls := "java/util/List", name := "isEmpty", desc := "()Z" } : Jvm.MethodName)) ∈ lw_all := lw_g (lw_at lw_m3 135 rfl) rfl
theorem q647 : (Jvm.Cond.methodLink "Haltingale" (395 : Nat) ({ cls := "Haltingale", name := "taggedNow", desc := "(LHaltingale$Tag;II)I" } : Jvm.MethodName)) ∈ lw_all := lw_g (lw_at lw_m3 143 rfl) rfl
theorem q648 : (Jvm.Cond.static ({ cls := "Haltingale", name := "taggedNow", desc := "(LHaltingale$Tag;II)I" } : Jvm.MethodName)) ∈ lw_all := lw_g (lw_at lw_m3 144 rfl) rfl
theorem q649 : (Jvm.Cond.code ({ cls := "Haltingale", name := "taggedNow", desc := "(LHaltingale$Tag;II)I" } : Jvm.MethodName) prog_1_method_43_code (5 : Nat) (Option.some Jvm.ClassFile.FieldType.int)) ∈ lw_all := lw_g (lw_at lw_m3 145 rfl) rfl
theorem q650 : (Jvm.Cond.methodLink "Haltingale" (385 : Nat) ({ cls := "Haltingale$Tag", name := "canGo", desc := "(I)Z" } : Jvm.MethodName)) ∈ lw_all := lw_g (lw_at lw_m3 146 rfl) rfl
theorem q657 : (Jvm.Cond.methodLink "Haltingale" (389 : Nat) ({ cls := "Haltingale$Tag", name := "go", desc := "(I)I" } : Jvm.MethodName)) ∈ lw_all := lw_g (lw_at lw_m3 153 rfl) rfl
theorem q661 : (Jvm.Cond.methodLink "Haltingale" (392 : Nat) ({ cls := "Haltingale$Tag", name := "length", desc := "(I)I" } : Jvm.MethodName)) ∈ lw_all := lw_g (lw_at lw_m3 157 rfl) rfl
theorem q662 : (Jvm.Cond.methodLink "Haltingale" (382 : Nat) ({ cls := "Haltingale", name := "championNow", desc := "(I)I" } : Jvm.MethodName)) ∈ lw_all := lw_g (lw_at lw_m3 158 rfl) rfl
theorem q663 : (Jvm.Cond.privateMethod ({ cls := "Haltingale", name := "championNow", desc := "(I)I" } : Jvm.MethodName)) ∈ lw_tbl := lw_at lw_m3 159 rfl
theorem q664 : (Jvm.Cond.instanceMethod ({ cls := "Haltingale", name := "championNow", desc := "(I)I" } : Jvm.MethodName)) ∈ lw_all := lw_g (lw_at lw_m3 160 rfl) rfl
theorem q665 : (Jvm.Cond.code ({ cls := "Haltingale", name := "championNow", desc := "(I)I" } : Jvm.MethodName) prog_1_method_41_code (6 : Nat) (Option.some Jvm.ClassFile.FieldType.int)) ∈ lw_all := lw_g (lw_at lw_m3 161 rfl) rfl
theorem q672 : (Jvm.Cond.instanceMethod ({ cls := "Haltingale", name := "machine", desc := "(I)I" } : Jvm.MethodName)) ∈ lw_all := lw_g (lw_at lw_m3 168 rfl) rfl
theorem q673 : (Jvm.Cond.selects "Haltingale" ({ cls := "Haltingale", name := "machine", desc := "(I)I" } : Jvm.MethodName) ({ cls := "Haltingale", name := "machine", desc := "(I)I" } : Jvm.MethodName)) ∈ lw_all := lw_g (lw_at lw_m3 169 rfl) rfl
theorem q674 : (Jvm.Cond.code ({ cls := "Haltingale", name := "machine", desc := "(I)I" } : Jvm.MethodName) prog_1_method_16_code (2 : Nat) (Option.some Jvm.ClassFile.FieldType.int)) ∈ lw_all := lw_g (lw_at lw_m3 170 rfl) rfl
theorem q675 : (Jvm.Cond.methodLink "Haltingale" (176 : Nat) ({ cls := "Haltingale", name := "checkState", desc := "(Z)V" } : Jvm.MethodName)) ∈ lw_all := lw_g (lw_at lw_m3 171 rfl) rfl
theorem q676 : (Jvm.Cond.static ({ cls := "Haltingale", name := "checkState", desc := "(Z)V" } : Jvm.MethodName)) ∈ lw_all := lw_g (lw_at lw_m3 172 rfl) rfl
theorem q677 : (Jvm.Cond.code ({ cls := "Haltingale", name := "checkState", desc := "(Z)V" } : Jvm.MethodName) prog_1_method_11_code (1 : Nat) (Option.none : Option Jvm.ClassFile.FieldType)) ∈ lw_all := lw_g (lw_at lw_m3 173 rfl) rfl
theorem q678 : (Jvm.Cond.classLink "Haltingale" (151 : Nat) "java/lang/IllegalStateException") ∈ lw_all := lw_g (lw_at lw_m3 174 rfl) rfl
theorem q687 : (Jvm.Cond.methodLink "Haltingale" (153 : Nat) ({ cls := "java/lang/IllegalStateException", name := "<init>", desc := "()V" } : Jvm.MethodName)) ∈ lw_all := lw_g (lw_at lw_m3 183 rfl) rfl
theorem q694 : (Jvm.Cond.classLink "Haltingale" (74 : Nat) "Haltingale$Table") ∈ lw_all := lw_g (lw_at lw_m3 190 rfl) rfl
theorem q696 : (Jvm.Cond.methodLink "Haltingale" (179 : Nat) ({ cls := "Haltingale$Table", name := "<init>", desc := "(I)V" } : Jvm.MethodName)) ∈ lw_all := lw_g (lw_at lw_m3 192 rfl) rfl
theorem q708 : (Jvm.Cond.fieldLinkNest "Haltingale" (73 : Nat) "Haltingale$Table" "states" "I" "Haltingale") ∈ lw_tbl := lw_at lw_m3 204 rfl
theorem q715 : (Jvm.Cond.methodLink "Haltingale" (182 : Nat) ({ cls := "Haltingale$Machine", name := "<init>", desc := "(LHaltingale$Table;)V" } : Jvm.MethodName)) ∈ lw_all := lw_g (lw_at lw_m3 211 rfl) rfl
theorem q721 : (Jvm.Cond.fieldLinkNest "Haltingale" (166 : Nat) "Haltingale$Machine" "table" "LHaltingale$Table;" "Haltingale") ∈ lw_tbl := lw_at lw_m3 217 rfl
theorem q723 : (Jvm.Cond.fieldLinkNest "Haltingale" (308 : Nat) "Haltingale$Machine" "kind" "Ljava/util/Optional;" "Haltingale") ∈ lw_tbl := lw_at lw_m3 219 rfl
theorem q725 : (Jvm.Cond.fieldLinkNest "Haltingale" (334 : Nat) "Haltingale$Machine" "a" "I" "Haltingale") ∈ lw_tbl := lw_at lw_m3 221 rfl
theorem q727 : (Jvm.Cond.fieldLinkNest "Haltingale" (337 : Nat) "Haltingale$Machine" "b" "I" "Haltingale") ∈ lw_tbl := lw_at lw_m3 223 rfl
theorem q773 : (Jvm.Cond.instanceMethod ({ cls := "Haltingale", name := "tell", desc := "(IIIIII)I" } : Jvm.MethodName)) ∈ lw_all := lw_g (lw_at lw_m4 29 rfl) rfl
theorem q774 : (Jvm.Cond.selects "Haltingale" ({ cls := "Haltingale", name := "tell", desc := "(IIIIII)I" } : Jvm.MethodName) ({ cls := "Haltingale", name := "tell", desc := "(IIIIII)I" } : Jvm.MethodName)) ∈ lw_all := lw_g (lw_at lw_m4 30 rfl) rfl
theorem q775 : (Jvm.Cond.code ({ cls := "Haltingale", name := "tell", desc := "(IIIIII)I" } : Jvm.MethodName) prog_1_method_18_code (9 : Nat) (Option.some Jvm.ClassFile.FieldType.int)) ∈ lw_all := lw_g (lw_at lw_m4 31 rfl) rfl
theorem q776 : (Jvm.Cond.methodLink "Haltingale" (197 : Nat) ({ cls := "Haltingale", name := "cellAt", desc := "(III)LHaltingale$Table;" } : Jvm.MethodName)) ∈ lw_all := lw_g (lw_at lw_m4 32 rfl) rfl
theorem q777 : (Jvm.Cond.privateMethod ({ cls := "Haltingale", name := "cellAt", desc := "(III)LHaltingale$Table;" } : Jvm.MethodName)) ∈ lw_tbl := lw_at lw_m4 33 rfl
theorem q778 : (Jvm.Cond.instanceMethod ({ cls := "Haltingale", name := "cellAt", desc := "(III)LHaltingale$Table;" } : Jvm.MethodName)) ∈ lw_all := lw_g (lw_at lw_m4 34 rfl) rfl
theorem q779 : (Jvm.Cond.code ({ cls := "Haltingale", name := "cellAt", desc := "(III)LHaltingale$Table;" } : Jvm.MethodName) prog_1_method_14_code (5 : Nat) (Option.some (Jvm.ClassFile.FieldType.object "Haltingale$Table"))) ∈ lw_all := lw_g (lw_at lw_m4 35 rfl) rfl
theorem q780 : (Jvm.Cond.methodLink "Haltingale" (162 : Nat) ({ cls := "Haltingale", name := "machineAt", desc := "(I)LHaltingale$Machine;" } : Jvm.MethodName)) ∈ lw_all := lw_g (lw_at lw_m4 36 rfl) rfl
theorem q781 : (Jvm.Cond.privateMethod ({ cls := "Haltingale", name := "machineAt", desc := "(I)LHaltingale$Machine;" } : Jvm.MethodName)) ∈ lw_tbl := lw_at lw_m4 37 rfl
theorem q782 : (Jvm.Cond.instanceMethod ({ cls := "Haltingale", name := "machineAt", desc := "(I)LHaltingale$Machine;" } : Jvm.MethodName)) ∈ lw_all := lw_g (lw_at lw_m4 38 rfl) rfl
theorem q783 : (Jvm.Cond.code ({ cls := "Haltingale", name := "machineAt", desc := "(I)LHaltingale$Machine;" } : Jvm.MethodName) prog_1_method_13_code (2 : Nat) (Option.some (Jvm.ClassFile.FieldType.object "Haltingale$Machine"))) ∈ lw_all := lw_g (lw_at lw_m4 39 rfl) rfl
theorem q784 : (Jvm.Cond.methodLink "Haltingale" (157 : Nat) ({ cls := "Haltingale", name := "checkPlace", desc := "(II)V" } : Jvm.MethodName)) ∈ lw_all := lw_g (lw_at lw_m4 40 rfl) rfl
theorem q785 : (Jvm.Cond.static ({ cls := "Haltingale", name := "checkPlace", desc := "(II)V" } : Jvm.MethodName)) ∈ lw_all := lw_g (lw_at lw_m4 41 rfl) rfl
theorem q786 : (Jvm.Cond.code ({ cls := "Haltingale", name := "checkPlace", desc := "(II)V" } : Jvm.MethodName) prog_1_method_12_code (2 : Nat) (Option.none : Option Jvm.ClassFile.FieldType)) ∈ lw_all := lw_g (lw_at lw_m4 42 rfl) rfl
theorem q787 : (Jvm.Cond.classLink "Haltingale" (154 : Nat) "java/lang/IndexOutOfBoundsException") ∈ lw_all := lw_g (lw_at lw_m4 43 rfl) rfl
theorem q796 : (Jvm.Cond.methodLink "Haltingale" (156 : Nat) ({ cls := "java/lang/IndexOutOfBoundsException", name := "<init>", desc := "()V" } : Jvm.MethodName)) ∈ lw_all := lw_g (lw_at lw_m4 52 rfl) rfl
theorem q802 : (Jvm.Cond.methodLink "Haltingale" (201 : Nat) ({ cls := "Haltingale", name := "ruleOf", desc := "(LHaltingale$Table;III)LHaltingale$Rule;" } : Jvm.MethodName)) ∈ lw_all := lw_g (lw_at lw_m4 58 rfl) rfl
theorem q803 : (Jvm.Cond.static ({ cls := "Haltingale", name := "ruleOf", desc := "(LHaltingale$Table;III)LHaltingale$Rule;" } : Jvm.MethodName)) ∈ lw_all := lw_g (lw_at lw_m4 59 rfl) rfl
theorem q804 : (Jvm.Cond.code ({ cls := "Haltingale", name := "ruleOf", desc := "(LHaltingale$Table;III)LHaltingale$Rule;" } : Jvm.MethodName) prog_1_method_15_code (4 : Nat) (Option.some (Jvm.ClassFile.FieldType.object "Haltingale$Rule"))) ∈ lw_all := lw_g (lw_at lw_m4 60 rfl) rfl
theorem q806 : (Jvm.Cond.methodLink "Haltingale" (174 : Nat) ({ cls := "Haltingale$Rule", name := "<init>", desc := "(III)V" } : Jvm.MethodName)) ∈ lw_all := lw_g (lw_at lw_m4 62 rfl) rfl
theorem q814 : (Jvm.Cond.fieldLinkNest "Haltingale" (315 : Nat) "Haltingale$Rule" "write" "I" "Haltingale") ∈ lw_tbl := lw_at lw_m4 70 rfl
theorem q819 : (Jvm.Cond.fieldLinkNest "Haltingale" (318 : Nat) "Haltingale$Rule" "move" "I" "Haltingale") ∈ lw_tbl := lw_at lw_m4 75 rfl
theorem q825 : (Jvm.Cond.fieldLinkNest "Haltingale" (321 : Nat) "Haltingale$Rule" "next" "I" "Haltingale") ∈ lw_tbl := lw_at lw_m4 81 rfl
theorem q833 : (Jvm.Cond.methodLink "Haltingale" (205 : Nat) ({ cls := "Haltingale$Table", name := "set", desc := "(IILHaltingale$Rule;)V" } : Jvm.MethodName)) ∈ lw_all := lw_g (lw_at lw_m4 89 rfl) rfl
theorem q847 : (Jvm.Cond.methodLink "Haltingale" (209 : Nat) ({ cls := "Haltingale", name := "takeBack", desc := "(LHaltingale$Machine;)Z" } : Jvm.MethodName)) ∈ lw_all := lw_g (lw_at lw_m4 103 rfl) rfl
theorem q848 : (Jvm.Cond.privateMethod ({ cls := "Haltingale", name := "takeBack", desc := "(LHaltingale$Machine;)Z" } : Jvm.MethodName)) ∈ lw_tbl := lw_at lw_m4 104 rfl
theorem q849 : (Jvm.Cond.instanceMethod ({ cls := "Haltingale", name := "takeBack", desc := "(LHaltingale$Machine;)Z" } : Jvm.MethodName)) ∈ lw_all := lw_g (lw_at lw_m4 105 rfl) rfl
theorem q850 : (Jvm.Cond.codeWith ({ cls := "Haltingale", name := "takeBack", desc := "(LHaltingale$Machine;)Z" } : Jvm.MethodName) prog_1_method_17_code (5 : Nat) (Option.some Jvm.ClassFile.FieldType.boolean) [((12 : Nat), (45 : Nat), (48 : Nat), (0 : Nat)), ((48 : Nat), (52 : Nat), (48 : Nat), (0 : Nat))]) ∈ lw_all := lw_g (lw_at lw_m4 106 rfl) rfl
theorem q851 : (Jvm.Cond.methodLink "Haltingale" (185 : Nat) ({ cls := "Haltingale$Machine", name := "open", desc := "()Z" } : Jvm.MethodName)) ∈ lw_all := lw_g (lw_at lw_m4 107 rfl) rfl
theorem q856 : (Jvm.Cond.methodLink "Haltingale" (194 : Nat) ({ cls := "java/lang/Object", name := "notify", desc := "()V" } : Jvm.MethodName)) ∈ lw_all := lw_g (lw_at lw_m4 112 rfl) rfl
theorem q859 : (Jvm.Cond.selects "Haltingale" ({ cls := "java/lang/Object", name := "notify", desc := "()V" } : Jvm.MethodName) ({ cls := "java/lang/Object", name := "notify", desc := "()V" } : Jvm.MethodName)) ∈ lw_all := lw_g (lw_at lw_m4 115 rfl) rfl
theorem q890 : (Jvm.Cond.instanceMethod ({ cls := "Haltingale", name := "amend", desc := "(IIIIII)Z" } : Jvm.MethodName)) ∈ lw_all := lw_g (lw_at lw_m4 146 rfl) rfl
theorem q891 : (Jvm.Cond.selects "Haltingale" ({ cls := "Haltingale", name := "amend", desc := "(IIIIII)Z" } : Jvm.MethodName) ({ cls := "Haltingale", name := "amend", desc := "(IIIIII)Z" } : Jvm.MethodName)) ∈ lw_all := lw_g (lw_at lw_m4 147 rfl) rfl
theorem q892 : (Jvm.Cond.code ({ cls := "Haltingale", name := "amend", desc := "(IIIIII)Z" } : Jvm.MethodName) prog_1_method_19_code (9 : Nat) (Option.some Jvm.ClassFile.FieldType.boolean)) ∈ lw_all := lw_g (lw_at lw_m4 148 rfl) rfl
theorem q897 : (Jvm.Cond.instanceMethod ({ cls := "Haltingale", name := "child", desc := "(II)I" } : Jvm.MethodName)) ∈ lw_all := lw_g (lw_at lw_m4 153 rfl) rfl
theorem q898 : (Jvm.Cond.selects "Haltingale" ({ cls := "Haltingale", name := "child", desc := "(II)I" } : Jvm.MethodName) ({ cls := "Haltingale", name := "child", desc := "(II)I" } : Jvm.MethodName)) ∈ lw_all := lw_g (lw_at lw_m4 154 rfl) rfl
theorem q899 : (Jvm.Cond.code ({ cls := "Haltingale", name := "child", desc := "(II)I" } : Jvm.MethodName) prog_1_method_22_code (8 : Nat) (Option.some Jvm.ClassFile.FieldType.int)) ∈ lw_all := lw_g (lw_at lw_m4 155 rfl) rfl
theorem q900 : (Jvm.Cond.methodLink "Haltingale" (230 : Nat) ({ cls := "Haltingale$Table", name := "copy", desc := "()LHaltingale$Table;" } : Jvm.MethodName)) ∈ lw_all := lw_g (lw_at lw_m4 156 rfl) rfl
theorem q906 : (Jvm.Cond.methodLink "Haltingale" (237 : Nat) ({ cls := "Haltingale$Walker", name := "symbol", desc := "(I)I" } : Jvm.MethodName)) ∈ lw_all := lw_g (lw_at lw_m4 162 rfl) rfl
theorem q911 : (Jvm.Cond.instanceMethod ({ cls := "Haltingale", name := "tag", desc := "(III)I" } : Jvm.MethodName)) ∈ lw_all := lw_g (lw_at lw_m4 167 rfl) rfl
theorem q912 : (Jvm.Cond.selects "Haltingale" ({ cls := "Haltingale", name := "tag", desc := "(III)I" } : Jvm.MethodName) ({ cls := "Haltingale", name := "tag", desc := "(III)I" } : Jvm.MethodName)) ∈ lw_all := lw_g (lw_at lw_m4 168 rfl) rfl
theorem q913 : (Jvm.Cond.code ({ cls := "Haltingale", name := "tag", desc := "(III)I" } : Jvm.MethodName) prog_1_method_23_code (4 : Nat) (Option.some Jvm.ClassFile.FieldType.int)) ∈ lw_all := lw_g (lw_at lw_m4 169 rfl) rfl
theorem q915 : (Jvm.Cond.methodLink "Haltingale" (242 : Nat) ({ cls := "Haltingale$Tag", name := "<init>", desc := "(III)V" } : Jvm.MethodName)) ∈ lw_all := lw_g (lw_at lw_m4 171 rfl) rfl
theorem q929 : (Jvm.Cond.instanceMethod ({ cls := "Haltingale", name := "prove", desc := "(IIII)Z" } : Jvm.MethodName)) ∈ lw_all := lw_g (lw_at lw_m4 185 rfl) rfl
theorem q930 : (Jvm.Cond.selects "Haltingale" ({ cls := "Haltingale", name := "prove", desc := "(IIII)Z" } : Jvm.MethodName) ({ cls := "Haltingale", name := "prove", desc := "(IIII)Z" } : Jvm.MethodName)) ∈ lw_all := lw_g (lw_at lw_m4 186 rfl) rfl
theorem q931 : (Jvm.Cond.code ({ cls := "Haltingale", name := "prove", desc := "(IIII)Z" } : Jvm.MethodName) prog_1_method_26_code (8 : Nat) (Option.some Jvm.ClassFile.FieldType.boolean)) ∈ lw_all := lw_g (lw_at lw_m4 187 rfl) rfl
theorem q932 : (Jvm.Cond.methodLink "Haltingale" (273 : Nat) ({ cls := "Haltingale$Kind", name := "isFit", desc := "(II)Z" } : Jvm.MethodName)) ∈ lw_all := lw_g (lw_at lw_m4 188 rfl) rfl
theorem q947 : (Jvm.Cond.methodLink "Haltingale" (279 : Nat) ({ cls := "Haltingale$Kind", name := "takes", desc := "(LHaltingale$Table;II)Z" } : Jvm.MethodName)) ∈ lw_all := lw_g (lw_at lw_m4 203 rfl) rfl
theorem q961 : (Jvm.Cond.static ({ cls := "Haltingale", name := "isCycle", desc := "(LHaltingale$Table;II)Z" } : Jvm.MethodName)) ∈ lw_all := lw_g (lw_at lw_m4 217 rfl) rfl
theorem q962 : (Jvm.Cond.code ({ cls := "Haltingale", name := "isCycle", desc := "(LHaltingale$Table;II)Z" } : Jvm.MethodName) prog_1_method_1_code (8 : Nat) (Option.some Jvm.ClassFile.FieldType.boolean)) ∈ lw_all := lw_g (lw_at lw_m4 218 rfl) rfl
theorem q1020 : (Jvm.Cond.methodLink "Haltingale" (283 : Nat) ({ cls := "Haltingale", name := "enter", desc := "(Z)V" } : Jvm.MethodName)) ∈ lw_all := lw_g (lw_at lw_m5 36 rfl) rfl
theorem q1021 : (Jvm.Cond.privateMethod ({ cls := "Haltingale", name := "enter", desc := "(Z)V" } : Jvm.MethodName)) ∈ lw_tbl := lw_at lw_m5 37 rfl
theorem q1022 : (Jvm.Cond.instanceMethod ({ cls := "Haltingale", name := "enter", desc := "(Z)V" } : Jvm.MethodName)) ∈ lw_all := lw_g (lw_at lw_m5 38 rfl) rfl
theorem q1023 : (Jvm.Cond.codeWith ({ cls := "Haltingale", name := "enter", desc := "(Z)V" } : Jvm.MethodName) prog_1_method_24_code (4 : Nat) (Option.none : Option Jvm.ClassFile.FieldType) [((11 : Nat), (33 : Nat), (36 : Nat), (0 : Nat)), ((36 : Nat), (39 : Nat), (36 : Nat), (0 : Nat)), ((42 : Nat), (49 : Nat), (52 : Nat), (249 : Nat))]) ∈ lw_all := lw_g (lw_at lw_m5 39 rfl) rfl
theorem q1024 : (Jvm.Cond.classLink "Haltingale" (249 : Nat) "java/lang/IllegalMonitorStateException") ∈ lw_all := lw_g (lw_at lw_m5 40 rfl) rfl
theorem q1038 : (Jvm.Cond.methodLink "Haltingale" (246 : Nat) ({ cls := "java/lang/Object", name := "notifyAll", desc := "()V" } : Jvm.MethodName)) ∈ lw_all := lw_g (lw_at lw_m5 54 rfl) rfl
theorem q1041 : (Jvm.Cond.selects "Haltingale" ({ cls := "java/lang/Object", name := "notifyAll", desc := "()V" } : Jvm.MethodName) ({ cls := "java/lang/Object", name := "notifyAll", desc := "()V" } : Jvm.MethodName)) ∈ lw_all := lw_g (lw_at lw_m5 57 rfl) rfl
theorem q1068 : (Jvm.Cond.methodLink "Haltingale" (286 : Nat) ({ cls := "Haltingale$Machine", name := "decide", desc := "(LHaltingale$Kind;II)V" } : Jvm.MethodName)) ∈ lw_all := lw_g (lw_at lw_m5 84 rfl) rfl
theorem q1077 : (Jvm.Cond.instanceMethod ({ cls := "Haltingale", name := "doubt", desc := "(I)I" } : Jvm.MethodName)) ∈ lw_all := lw_g (lw_at lw_m5 93 rfl) rfl
theorem q1078 : (Jvm.Cond.selects "Haltingale" ({ cls := "Haltingale", name := "doubt", desc := "(I)I" } : Jvm.MethodName) ({ cls := "Haltingale", name := "doubt", desc := "(I)I" } : Jvm.MethodName)) ∈ lw_all := lw_g (lw_at lw_m5 94 rfl) rfl
theorem q1079 : (Jvm.Cond.code ({ cls := "Haltingale", name := "doubt", desc := "(I)I" } : Jvm.MethodName) prog_1_method_27_code (5 : Nat) (Option.some Jvm.ClassFile.FieldType.int)) ∈ lw_all := lw_g (lw_at lw_m5 95 rfl) rfl
theorem q1084 : (Jvm.Cond.instanceMethod ({ cls := "Haltingale", name := "decide", desc := "(I)I" } : Jvm.MethodName)) ∈ lw_all := lw_g (lw_at lw_m5 100 rfl) rfl
theorem q1085 : (Jvm.Cond.selects "Haltingale" ({ cls := "Haltingale", name := "decide", desc := "(I)I" } : Jvm.MethodName) ({ cls := "Haltingale", name := "decide", desc := "(I)I" } : Jvm.MethodName)) ∈ lw_all := lw_g (lw_at lw_m5 101 rfl) rfl
theorem q1086 : (Jvm.Cond.code ({ cls := "Haltingale", name := "decide", desc := "(I)I" } : Jvm.MethodName) prog_1_method_28_code (7 : Nat) (Option.some Jvm.ClassFile.FieldType.int)) ∈ lw_all := lw_g (lw_at lw_m5 102 rfl) rfl
theorem q1087 : (Jvm.Cond.methodLink "Haltingale" (302 : Nat) ({ cls := "Haltingale", name := "gramNow", desc := "(LHaltingale$Table;)I" } : Jvm.MethodName)) ∈ lw_all := lw_g (lw_at lw_m5 103 rfl) rfl
theorem q1088 : (Jvm.Cond.static ({ cls := "Haltingale", name := "gramNow", desc := "(LHaltingale$Table;)I" } : Jvm.MethodName)) ∈ lw_all := lw_g (lw_at lw_m5 104 rfl) rfl
theorem q1089 : (Jvm.Cond.code ({ cls := "Haltingale", name := "gramNow", desc := "(LHaltingale$Table;)I" } : Jvm.MethodName) prog_1_method_52_code (2 : Nat) (Option.some Jvm.ClassFile.FieldType.int)) ∈ lw_all := lw_g (lw_at lw_m5 105 rfl) rfl
theorem q1094 : (Jvm.Cond.instanceMethod ({ cls := "Haltingale", name := "cell", desc := "(IIII)I" } : Jvm.MethodName)) ∈ lw_all := lw_g (lw_at lw_m5 110 rfl) rfl
theorem q1095 : (Jvm.Cond.selects "Haltingale" ({ cls := "Haltingale", name := "cell", desc := "(IIII)I" } : Jvm.MethodName) ({ cls := "Haltingale", name := "cell", desc := "(IIII)I" } : Jvm.MethodName)) ∈ lw_all := lw_g (lw_at lw_m5 111 rfl) rfl
theorem q1096 : (Jvm.Cond.code ({ cls := "Haltingale", name := "cell", desc := "(IIII)I" } : Jvm.MethodName) prog_1_method_30_code (6 : Nat) (Option.some Jvm.ClassFile.FieldType.int)) ∈ lw_all := lw_g (lw_at lw_m5 112 rfl) rfl
theorem q1101 : (Jvm.Cond.instanceMethod ({ cls := "Haltingale", name := "ofMachine", desc := "(II)I" } : Jvm.MethodName)) ∈ lw_all := lw_g (lw_at lw_m5 117 rfl) rfl
theorem q1102 : (Jvm.Cond.selects "Haltingale" ({ cls := "Haltingale", name := "ofMachine", desc := "(II)I" } : Jvm.MethodName) ({ cls := "Haltingale", name := "ofMachine", desc := "(II)I" } : Jvm.MethodName)) ∈ lw_all := lw_g (lw_at lw_m5 118 rfl) rfl
theorem q1103 : (Jvm.Cond.code ({ cls := "Haltingale", name := "ofMachine", desc := "(II)I" } : Jvm.MethodName) prog_1_method_33_code (4 : Nat) (Option.some Jvm.ClassFile.FieldType.int)) ∈ lw_all := lw_g (lw_at lw_m5 119 rfl) rfl
theorem q1108 : (Jvm.Cond.instanceMethod ({ cls := "Haltingale", name := "at", desc := "(III)I" } : Jvm.MethodName)) ∈ lw_all := lw_g (lw_at lw_m5 124 rfl) rfl
theorem q1109 : (Jvm.Cond.selects "Haltingale" ({ cls := "Haltingale", name := "at", desc := "(III)I" } : Jvm.MethodName) ({ cls := "Haltingale", name := "at", desc := "(III)I" } : Jvm.MethodName)) ∈ lw_all := lw_g (lw_at lw_m5 125 rfl) rfl
theorem q1110 : (Jvm.Cond.code ({ cls := "Haltingale", name := "at", desc := "(III)I" } : Jvm.MethodName) prog_1_method_36_code (5 : Nat) (Option.some Jvm.ClassFile.FieldType.int)) ∈ lw_all := lw_g (lw_at lw_m5 126 rfl) rfl
theorem q1115 : (Jvm.Cond.instanceMethod ({ cls := "Haltingale", name := "symbol", desc := "(III)I" } : Jvm.MethodName)) ∈ lw_all := lw_g (lw_at lw_m5 131 rfl) rfl
theorem q1116 : (Jvm.Cond.selects "Haltingale" ({ cls := "Haltingale", name := "symbol", desc := "(III)I" } : Jvm.MethodName) ({ cls := "Haltingale", name := "symbol", desc := "(III)I" } : Jvm.MethodName)) ∈ lw_all := lw_g (lw_at lw_m5 132 rfl) rfl
theorem q1117 : (Jvm.Cond.code ({ cls := "Haltingale", name := "symbol", desc := "(III)I" } : Jvm.MethodName) prog_1_method_37_code (5 : Nat) (Option.some Jvm.ClassFile.FieldType.int)) ∈ lw_all := lw_g (lw_at lw_m5 133 rfl) rfl
theorem q1122 : (Jvm.Cond.instanceMethod ({ cls := "Haltingale", name := "lean", desc := "(II)D" } : Jvm.MethodName)) ∈ lw_all := lw_g (lw_at lw_m5 138 rfl) rfl
theorem q1123 : (Jvm.Cond.selects "Haltingale" ({ cls := "Haltingale", name := "lean", desc := "(II)D" } : Jvm.MethodName) ({ cls := "Haltingale", name := "lean", desc := "(II)D" } : Jvm.MethodName)) ∈ lw_all := lw_g (lw_at lw_m5 139 rfl) rfl
theorem q1124 : (Jvm.Cond.code ({ cls := "Haltingale", name := "lean", desc := "(II)D" } : Jvm.MethodName) prog_1_method_38_code (7 : Nat) (Option.some Jvm.ClassFile.FieldType.double)) ∈ lw_all := lw_g (lw_at lw_m5 140 rfl) rfl
theorem q1125 : (Jvm.Cond.constantDouble "Haltingale" (364 : Nat) (4616189618054758400 : UInt64)) ∈ lw_all := lw_g (lw_at lw_m5 141 rfl) rfl
theorem q1126 : (Jvm.Cond.methodLink "Haltingale" (366 : Nat) ({ cls := "java/lang/Math", name := "abs", desc := "(D)D" } : Jvm.MethodName)) ∈ lw_all := lw_g (lw_at lw_m5 142 rfl) rfl
theorem q1136 : (Jvm.Cond.methodLink "Haltingale" (369 : Nat) ({ cls := "java/lang/Math", name := "rint", desc := "(D)D" } : Jvm.MethodName)) ∈ lw_all := lw_g (lw_at lw_m5 152 rfl) rfl
theorem q1148 : (Jvm.Cond.methodLink "Haltingale" (372 : Nat) ({ cls := "java/lang/Math", name := "signum", desc := "(D)D" } : Jvm.MethodName)) ∈ lw_all := lw_g (lw_at lw_m5 164 rfl) rfl
theorem q1155 : (Jvm.Cond.methodLink "Haltingale" (375 : Nat) ({ cls := "java/lang/Math", name := "min", desc := "(DD)D" } : Jvm.MethodName)) ∈ lw_all := lw_g (lw_at lw_m5 171 rfl) rfl
theorem q1164 : (Jvm.Cond.instanceMethod ({ cls := "Haltingale", name := "meets", desc := "(IIII)I" } : Jvm.MethodName)) ∈ lw_all := lw_g (lw_at lw_m5 180 rfl) rfl
theorem q1165 : (Jvm.Cond.selects "Haltingale" ({ cls := "Haltingale", name := "meets", desc := "(IIII)I" } : Jvm.MethodName) ({ cls := "Haltingale", name := "meets", desc := "(IIII)I" } : Jvm.MethodName)) ∈ lw_all := lw_g (lw_at lw_m5 181 rfl) rfl
theorem q1166 : (Jvm.Cond.code ({ cls := "Haltingale", name := "meets", desc := "(IIII)I" } : Jvm.MethodName) prog_1_method_39_code (8 : Nat) (Option.some Jvm.ClassFile.FieldType.int)) ∈ lw_all := lw_g (lw_at lw_m5 182 rfl) rfl
theorem q1171 : (Jvm.Cond.instanceMethod ({ cls := "Haltingale", name := "likeness", desc := "(II)I" } : Jvm.MethodName)) ∈ lw_all := lw_g (lw_at lw_m5 187 rfl) rfl
theorem q1172 : (Jvm.Cond.selects "Haltingale" ({ cls := "Haltingale", name := "likeness", desc := "(II)I" } : Jvm.MethodName) ({ cls := "Haltingale", name := "likeness", desc := "(II)I" } : Jvm.MethodName)) ∈ lw_all := lw_g (lw_at lw_m5 188 rfl) rfl
theorem q1173 : (Jvm.Cond.code ({ cls := "Haltingale", name := "likeness", desc := "(II)I" } : Jvm.MethodName) prog_1_method_40_code (5 : Nat) (Option.some Jvm.ClassFile.FieldType.int)) ∈ lw_all := lw_g (lw_at lw_m5 189 rfl) rfl
theorem q1174 : (Jvm.Cond.methodLink "Haltingale" (378 : Nat) ({ cls := "Haltingale$Table", name := "isAs", desc := "(LHaltingale$Table;Z)Z" } : Jvm.MethodName)) ∈ lw_all := lw_g (lw_at lw_m5 190 rfl) rfl
theorem q1192 : (Jvm.Cond.instanceMethod ({ cls := "Haltingale", name := "champion", desc := "(I)I" } : Jvm.MethodName)) ∈ lw_all := lw_g (lw_at lw_m5 208 rfl) rfl
theorem q1193 : (Jvm.Cond.selects "Haltingale" ({ cls := "Haltingale", name := "champion", desc := "(I)I" } : Jvm.MethodName) ({ cls := "Haltingale", name := "champion", desc := "(I)I" } : Jvm.MethodName)) ∈ lw_all := lw_g (lw_at lw_m5 209 rfl) rfl
theorem q1194 : (Jvm.Cond.code ({ cls := "Haltingale", name := "champion", desc := "(I)I" } : Jvm.MethodName) prog_1_method_42_code (2 : Nat) (Option.some Jvm.ClassFile.FieldType.int)) ∈ lw_all := lw_g (lw_at lw_m5 210 rfl) rfl
theorem q1199 : (Jvm.Cond.instanceMethod ({ cls := "Haltingale", name := "tagged", desc := "(III)I" } : Jvm.MethodName)) ∈ lw_all := lw_g (lw_at lw_m5 215 rfl) rfl
theorem q1200 : (Jvm.Cond.selects "Haltingale" ({ cls := "Haltingale", name := "tagged", desc := "(III)I" } : Jvm.MethodName) ({ cls := "Haltingale", name := "tagged", desc := "(III)I" } : Jvm.MethodName)) ∈ lw_all := lw_g (lw_at lw_m5 216 rfl) rfl
theorem q1201 : (Jvm.Cond.code ({ cls := "Haltingale", name := "tagged", desc := "(III)I" } : Jvm.MethodName) prog_1_method_44_code (4 : Nat) (Option.some Jvm.ClassFile.FieldType.int)) ∈ lw_all := lw_g (lw_at lw_m5 217 rfl) rfl
theorem q1206 : (Jvm.Cond.instanceMethod ({ cls := "Haltingale", name := "many", desc := "(I)I" } : Jvm.MethodName)) ∈ lw_all := lw_g (lw_at lw_m5 222 rfl) rfl
theorem q1207 : (Jvm.Cond.selects "Haltingale" ({ cls := "Haltingale", name := "many", desc := "(I)I" } : Jvm.MethodName) ({ cls := "Haltingale", name := "many", desc := "(I)I" } : Jvm.MethodName)) ∈ lw_all := lw_g (lw_at lw_m5 223 rfl) rfl
theorem q1208 : (Jvm.Cond.code ({ cls := "Haltingale", name := "many", desc := "(I)I" } : Jvm.MethodName) prog_1_method_47_code (2 : Nat) (Option.some Jvm.ClassFile.FieldType.int)) ∈ lw_all := lw_g (lw_at lw_m5 224 rfl) rfl
theorem q1213 : (Jvm.Cond.instanceMethod ({ cls := "Haltingale", name := "cycleIn", desc := "(II)I" } : Jvm.MethodName)) ∈ lw_all := lw_g (lw_at lw_m5 229 rfl) rfl
theorem q1214 : (Jvm.Cond.selects "Haltingale" ({ cls := "Haltingale", name := "cycleIn", desc := "(II)I" } : Jvm.MethodName) ({ cls := "Haltingale", name := "cycleIn", desc := "(II)I" } : Jvm.MethodName)) ∈ lw_all := lw_g (lw_at lw_m5 230 rfl) rfl
theorem q1215 : (Jvm.Cond.code ({ cls := "Haltingale", name := "cycleIn", desc := "(II)I" } : Jvm.MethodName) prog_1_method_49_code (4 : Nat) (Option.some Jvm.ClassFile.FieldType.int)) ∈ lw_all := lw_g (lw_at lw_m5 231 rfl) rfl
theorem q1220 : (Jvm.Cond.instanceMethod ({ cls := "Haltingale", name := "backIn", desc := "(I)I" } : Jvm.MethodName)) ∈ lw_all := lw_g (lw_at lw_m5 236 rfl) rfl
theorem q1221 : (Jvm.Cond.selects "Haltingale" ({ cls := "Haltingale", name := "backIn", desc := "(I)I" } : Jvm.MethodName) ({ cls := "Haltingale", name := "backIn", desc := "(I)I" } : Jvm.MethodName)) ∈ lw_all := lw_g (lw_at lw_m5 237 rfl) rfl
theorem q1222 : (Jvm.Cond.code ({ cls := "Haltingale", name := "backIn", desc := "(I)I" } : Jvm.MethodName) prog_1_method_51_code (2 : Nat) (Option.some Jvm.ClassFile.FieldType.int)) ∈ lw_all := lw_g (lw_at lw_m5 238 rfl) rfl
theorem q1227 : (Jvm.Cond.instanceMethod ({ cls := "Haltingale", name := "gramIn", desc := "(I)I" } : Jvm.MethodName)) ∈ lw_all := lw_g (lw_at lw_m6 3 rfl) rfl
theorem q1228 : (Jvm.Cond.selects "Haltingale" ({ cls := "Haltingale", name := "gramIn", desc := "(I)I" } : Jvm.MethodName) ({ cls := "Haltingale", name := "gramIn", desc := "(I)I" } : Jvm.MethodName)) ∈ lw_all := lw_g (lw_at lw_m6 4 rfl) rfl
theorem q1229 : (Jvm.Cond.code ({ cls := "Haltingale", name := "gramIn", desc := "(I)I" } : Jvm.MethodName) prog_1_method_53_code (2 : Nat) (Option.some Jvm.ClassFile.FieldType.int)) ∈ lw_all := lw_g (lw_at lw_m6 5 rfl) rfl
theorem q1658 : (Jvm.Cond.castable "Haltingale" "java/lang/Object") ∈ lw_tbl := lw_at lw_m7 194 rfl
theorem in_X1 : ∀ w ∈ wsX10, w ∈ lw_all := lw_in wsX10 [122, 124, 126] (by decide +kernel) (by decide +kernel)
